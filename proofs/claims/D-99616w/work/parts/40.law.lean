/-! the walk of the law, by program -/
set_option maxRecDepth 100000
def wp_L_law_1403 (nn : Nat) (sc : Nat → Int) (K18 : Int → Nat → Nat → Wd → Prop) (x0 : Nat) (x1 : Nat) (x2 : Nat) (x3 : Int) (bc bs : Nat) (w : Wd) : Prop := K18 (x3 + 6) bc bs w
def wp_L_law_216 (nn : Nat) (sc : Nat → Int) (K18 : Int → Nat → Nat → Wd → Prop) (x0 : Nat) (x1 : Nat) (x2 : Nat) (x3 : Int) (bc bs : Nat) (w : Wd) : Prop := scV x0 nn sc (x3 + 1) fun v1 => cO w x1 1 <| wp_X0_box x1 v1 w fun r2 w3 => scV x0 nn sc (x3 + 1) fun v5 => cO w3 x2 0 <| wp_X5_box x2 v5 w3 fun r6 w7 => ckI r2 <| ckI r6 <| br (r2 = r6) (wp_L_law_1403 nn sc K18 x0 x1 x2 x3 bc bs w7) (False)
def wp_L_law_239 (nn : Nat) (sc : Nat → Int) (K18 : Int → Nat → Nat → Wd → Prop) (x0 : Nat) (x1 : Nat) (x2 : Nat) (x3 : Int) (bc bs : Nat) (w : Wd) : Prop := scV x0 nn sc (x3 + 1) fun v1 => scV x0 nn sc (x3 + 2) fun v2 => cO w x1 1 <| wp_X0_of x1 v1 v2 w fun r3 w4 => scV x0 nn sc (x3 + 1) fun v6 => scV x0 nn sc (x3 + 2) fun v7 => cO w4 x2 0 <| wp_X5_of x2 v6 v7 w4 fun r8 w9 => ckI r3 <| ckI r8 <| br (r3 = r8) (wp_L_law_1403 nn sc K18 x0 x1 x2 x3 bc bs w9) (False)
def wp_L_law_272 (nn : Nat) (sc : Nat → Int) (K18 : Int → Nat → Nat → Wd → Prop) (x0 : Nat) (x1 : Nat) (x2 : Nat) (x3 : Int) (bc bs : Nat) (w : Wd) : Prop := scV x0 nn sc (x3 + 1) fun v1 => scV x0 nn sc (x3 + 2) fun v2 => scV x0 nn sc (x3 + 3) fun v3 => cO w x1 1 <| wp_X0_pins x1 v1 v2 v3 w fun r4 w5 => scV x0 nn sc (x3 + 1) fun v7 => scV x0 nn sc (x3 + 2) fun v8 => scV x0 nn sc (x3 + 3) fun v9 => cO w5 x2 0 <| wp_X5_pins x2 v7 v8 v9 w5 fun r10 w11 => ckI r4 <| ckI r10 <| br (r4 = r10) (wp_L_law_1403 nn sc K18 x0 x1 x2 x3 bc bs w11) (False)
def wp_L_law_315 (nn : Nat) (sc : Nat → Int) (K18 : Int → Nat → Nat → Wd → Prop) (x0 : Nat) (x1 : Nat) (x2 : Nat) (x3 : Int) (bc bs : Nat) (w : Wd) : Prop := scV x0 nn sc (x3 + 1) fun v1 => scV x0 nn sc (x3 + 2) fun v2 => cO w x1 1 <| wp_X0_suitor x1 v1 v2 w fun r3 w4 => scV x0 nn sc (x3 + 1) fun v6 => scV x0 nn sc (x3 + 2) fun v7 => cO w4 x2 0 <| wp_X5_suitor x2 v6 v7 w4 fun r8 w9 => ckI r3 <| ckI r8 <| br (r3 = r8) (wp_L_law_1403 nn sc K18 x0 x1 x2 x3 bc bs w9) (False)
def wp_L_law_348 (nn : Nat) (sc : Nat → Int) (K18 : Int → Nat → Nat → Wd → Prop) (x0 : Nat) (x1 : Nat) (x2 : Nat) (x3 : Int) (bc bs : Nat) (w : Wd) : Prop := scV x0 nn sc (x3 + 1) fun v1 => scV x0 nn sc (x3 + 2) fun v2 => cO w x1 1 <| wp_X0_at x1 v1 v2 w fun r3 w4 => scV x0 nn sc (x3 + 1) fun v6 => scV x0 nn sc (x3 + 2) fun v7 => cO w4 x2 0 <| wp_X5_at x2 v6 v7 w4 fun r8 w9 => ckI r3 <| ckI r8 <| br (r3 = r8) (wp_L_law_1403 nn sc K18 x0 x1 x2 x3 bc bs w9) (False)
def wp_L_law_381 (nn : Nat) (sc : Nat → Int) (K18 : Int → Nat → Nat → Wd → Prop) (x0 : Nat) (x1 : Nat) (x2 : Nat) (x3 : Int) (bc bs : Nat) (w : Wd) : Prop := scV x0 nn sc (x3 + 1) fun v1 => scV x0 nn sc (x3 + 2) fun v2 => scV x0 nn sc (x3 + 3) fun v3 => cO w x1 1 <| wp_X0_asks x1 v1 v2 v3 w fun r4 w5 => scV x0 nn sc (x3 + 1) fun v7 => scV x0 nn sc (x3 + 2) fun v8 => scV x0 nn sc (x3 + 3) fun v9 => cO w5 x2 0 <| wp_X5_asks x2 v7 v8 v9 w5 fun r10 w11 => ckI r4 <| ckI r10 <| br (r4 = r10) (wp_L_law_1403 nn sc K18 x0 x1 x2 x3 bc bs w11) (False)
def wp_L_law_424 (nn : Nat) (sc : Nat → Int) (K18 : Int → Nat → Nat → Wd → Prop) (x0 : Nat) (x1 : Nat) (x2 : Nat) (x3 : Int) (bc bs : Nat) (w : Wd) : Prop := scV x0 nn sc (x3 + 1) fun v1 => scV x0 nn sc (x3 + 2) fun v2 => cO w x1 1 <| wp_X0_terms x1 v1 v2 w fun r3 w4 => scV x0 nn sc (x3 + 1) fun v6 => scV x0 nn sc (x3 + 2) fun v7 => cO w4 x2 0 <| wp_X5_terms x2 v6 v7 w4 fun r8 w9 => ckI r3 <| ckI r8 <| br (r3 = r8) (wp_L_law_1403 nn sc K18 x0 x1 x2 x3 bc bs w9) (False)
def wp_L_law_457 (nn : Nat) (sc : Nat → Int) (K18 : Int → Nat → Nat → Wd → Prop) (x0 : Nat) (x1 : Nat) (x2 : Nat) (x3 : Int) (bc bs : Nat) (w : Wd) : Prop := scV x0 nn sc (x3 + 1) fun v1 => scV x0 nn sc (x3 + 2) fun v2 => scV x0 nn sc (x3 + 3) fun v3 => scV x0 nn sc (x3 + 4) fun v4 => scV x0 nn sc (x3 + 5) fun v5 => cO w x1 1 <| wp_X0_feed x1 v1 v2 v3 v4 v5 w fun r6 w7 => scV x0 nn sc (x3 + 1) fun v9 => scV x0 nn sc (x3 + 2) fun v10 => scV x0 nn sc (x3 + 3) fun v11 => scV x0 nn sc (x3 + 4) fun v12 => scV x0 nn sc (x3 + 5) fun v13 => cO w7 x2 0 <| wp_X5_feed x2 v9 v10 v11 v12 v13 w7 fun r14 w15 => ckI r6 <| ckI r14 <| br (r6 = r14) (wp_L_law_1403 nn sc K18 x0 x1 x2 x3 bc bs w15) (False)
def wp_L_law_520 (nn : Nat) (sc : Nat → Int) (K18 : Int → Nat → Nat → Wd → Prop) (x0 : Nat) (x1 : Nat) (x2 : Nat) (x3 : Int) (bc bs : Nat) (w : Wd) : Prop := scV x0 nn sc (x3 + 1) fun v1 => cO w x1 1 <| wp_X0_end x1 v1 w fun r2 w3 => scV x0 nn sc (x3 + 1) fun v5 => cO w3 x2 0 <| wp_X5_end x2 v5 w3 fun r6 w7 => ckI r2 <| ckI r6 <| br (r2 = r6) (wp_L_law_1403 nn sc K18 x0 x1 x2 x3 bc bs w7) (False)
def wp_L_law_543 (nn : Nat) (sc : Nat → Int) (K18 : Int → Nat → Nat → Wd → Prop) (x0 : Nat) (x1 : Nat) (x2 : Nat) (x3 : Int) (bc bs : Nat) (w : Wd) : Prop := cO w x1 1 <| wp_X0_row x1 w fun r1 w2 => cO w2 x2 0 <| wp_X5_row x2 w2 fun r4 w5 => ckI r1 <| ckI r4 <| br (r1 = r4) (wp_L_law_1403 nn sc K18 x0 x1 x2 x3 bc bs w5) (False)
def wp_L_law_556 (nn : Nat) (sc : Nat → Int) (K18 : Int → Nat → Nat → Wd → Prop) (x0 : Nat) (x1 : Nat) (x2 : Nat) (x3 : Int) (bc bs : Nat) (w : Wd) : Prop := cO w x1 1 <| wp_X0_rust x1 w fun r1 w2 => cO w2 x2 0 <| wp_X5_rust x2 w2 fun r4 w5 => ckI r1 <| ckI r4 <| br (r1 = r4) (wp_L_law_1403 nn sc K18 x0 x1 x2 x3 bc bs w5) (False)
def wp_L_law_569 (nn : Nat) (sc : Nat → Int) (K18 : Int → Nat → Nat → Wd → Prop) (x0 : Nat) (x1 : Nat) (x2 : Nat) (x3 : Int) (bc bs : Nat) (w : Wd) : Prop := cO w x1 1 <| xB bc bs fun mc3 ms4 => wp_X0_law x1 mc3 ms4 w fun r1 w2 => cO w2 x2 0 <| wp_X5_law x2 w2 fun r7 w8 => ckI r1 <| ckI r7 <| br (r1 = r7) (wp_L_law_1403 nn sc K18 x0 x1 x2 x3 (bc - mc3) (bs - ms4) w8) (False)
def wp_L_law_582 (nn : Nat) (sc : Nat → Int) (K18 : Int → Nat → Nat → Wd → Prop) (x0 : Nat) (x1 : Nat) (x2 : Nat) (x3 : Int) (bc bs : Nat) (w : Wd) : Prop := cO w x1 1 <| xB bc bs fun mc3 ms4 => wp_X0_orders x1 mc3 ms4 w fun r1 w2 => cO w2 x2 0 <| wp_X5_orders x2 w2 fun r7 w8 => ckI r1 <| ckI r7 <| br (r1 = r7) (wp_L_law_1403 nn sc K18 x0 x1 x2 x3 (bc - mc3) (bs - ms4) w8) (False)
def wp_L_law_595 (nn : Nat) (sc : Nat → Int) (K18 : Int → Nat → Nat → Wd → Prop) (x0 : Nat) (x1 : Nat) (x2 : Nat) (x3 : Int) (bc bs : Nat) (w : Wd) : Prop := cO w x1 1 <| wp_X0_fault x1 w fun r1 w2 => cO w2 x2 0 <| wp_X5_fault x2 w2 fun r4 w5 => ckI r1 <| ckI r4 <| br (r1 = r4) (wp_L_law_1403 nn sc K18 x0 x1 x2 x3 bc bs w5) (False)
def wp_L_law_608 (nn : Nat) (sc : Nat → Int) (K18 : Int → Nat → Nat → Wd → Prop) (x0 : Nat) (x1 : Nat) (x2 : Nat) (x3 : Int) (bc bs : Nat) (w : Wd) : Prop := cO w x1 1 <| wp_X0_stopped x1 w fun r1 w2 => cO w2 x2 0 <| wp_X5_stopped x2 w2 fun r4 w5 => ckI r1 <| ckI r4 <| br (r1 = r4) (wp_L_law_1403 nn sc K18 x0 x1 x2 x3 bc bs w5) (False)
def wp_L_law_621 (nn : Nat) (sc : Nat → Int) (K18 : Int → Nat → Nat → Wd → Prop) (x0 : Nat) (x1 : Nat) (x2 : Nat) (x3 : Int) (bc bs : Nat) (w : Wd) : Prop := scV x0 nn sc (x3 + 1) fun v1 => cO w x1 1 <| wp_X0_force x1 v1 w fun r2 w3 => scV x0 nn sc (x3 + 1) fun v5 => cO w3 x2 0 <| wp_X5_force x2 v5 w3 fun r6 w7 => ckI r2 <| ckI r6 <| br (r2 = r6) (wp_L_law_1403 nn sc K18 x0 x1 x2 x3 bc bs w7) (False)
def wp_L_law_644 (nn : Nat) (sc : Nat → Int) (K18 : Int → Nat → Nat → Wd → Prop) (x0 : Nat) (x1 : Nat) (x2 : Nat) (x3 : Int) (bc bs : Nat) (w : Wd) : Prop := scV x0 nn sc (x3 + 1) fun v1 => scV x0 nn sc (x3 + 2) fun v2 => scV x0 nn sc (x3 + 3) fun v3 => cO w x1 1 <| wp_X0_pull x1 v1 v2 v3 w fun r4 w5 => scV x0 nn sc (x3 + 1) fun v7 => scV x0 nn sc (x3 + 2) fun v8 => scV x0 nn sc (x3 + 3) fun v9 => cO w5 x2 0 <| wp_X5_pull x2 v7 v8 v9 w5 fun r10 w11 => ckI r4 <| ckI r10 <| br (r4 = r10) (wp_L_law_1403 nn sc K18 x0 x1 x2 x3 bc bs w11) (False)
def wp_L_law_687 (nn : Nat) (sc : Nat → Int) (K18 : Int → Nat → Nat → Wd → Prop) (x0 : Nat) (x1 : Nat) (x2 : Nat) (x3 : Int) (bc bs : Nat) (w : Wd) : Prop := scV x0 nn sc (x3 + 1) fun v1 => scV x0 nn sc (x3 + 2) fun v2 => cO w x1 1 <| wp_X0_snap x1 v1 v2 w fun r3 w4 => scV x0 nn sc (x3 + 1) fun v6 => scV x0 nn sc (x3 + 2) fun v7 => cO w4 x2 0 <| wp_X5_snap x2 v6 v7 w4 fun r8 w9 => ckI r3 <| ckI r8 <| br (r3 = r8) (wp_L_law_1403 nn sc K18 x0 x1 x2 x3 bc bs w9) (False)
def wp_L_law_720 (nn : Nat) (sc : Nat → Int) (K18 : Int → Nat → Nat → Wd → Prop) (x0 : Nat) (x1 : Nat) (x2 : Nat) (x3 : Int) (bc bs : Nat) (w : Wd) : Prop := scV x0 nn sc (x3 + 1) fun v1 => scV x0 nn sc (x3 + 2) fun v2 => cO w x1 1 <| wp_X0_wed x1 v1 v2 w fun r3 w4 => scV x0 nn sc (x3 + 1) fun v6 => scV x0 nn sc (x3 + 2) fun v7 => cO w4 x2 0 <| wp_X5_wed x2 v6 v7 w4 fun r8 w9 => ckI r3 <| ckI r8 <| br (r3 = r8) (wp_L_law_1403 nn sc K18 x0 x1 x2 x3 bc bs w9) (False)
def wp_L_law_753 (nn : Nat) (sc : Nat → Int) (K18 : Int → Nat → Nat → Wd → Prop) (x0 : Nat) (x1 : Nat) (x2 : Nat) (x3 : Int) (bc bs : Nat) (w : Wd) : Prop := cO w x1 1 <| wp_X0_pass x1 w fun r1 w2 => cO w2 x2 0 <| wp_X5_pass x2 w2 fun r4 w5 => ckI r1 <| ckI r4 <| br (r1 = r4) (wp_L_law_1403 nn sc K18 x0 x1 x2 x3 bc bs w5) (False)
def wp_L_law_766 (nn : Nat) (sc : Nat → Int) (K18 : Int → Nat → Nat → Wd → Prop) (x0 : Nat) (x1 : Nat) (x2 : Nat) (x3 : Int) (bc bs : Nat) (w : Wd) : Prop := cO w x1 1 <| wp_X0_undo x1 w fun r1 w2 => cO w2 x2 0 <| wp_X5_undo x2 w2 fun r4 w5 => ckI r1 <| ckI r4 <| br (r1 = r4) (wp_L_law_1403 nn sc K18 x0 x1 x2 x3 bc bs w5) (False)
def wp_L_law_779 (nn : Nat) (sc : Nat → Int) (K18 : Int → Nat → Nat → Wd → Prop) (x0 : Nat) (x1 : Nat) (x2 : Nat) (x3 : Int) (bc bs : Nat) (w : Wd) : Prop := scV x0 nn sc (x3 + 1) fun v1 => scV x0 nn sc (x3 + 2) fun v2 => scV x0 nn sc (x3 + 3) fun v3 => cO w x1 1 <| wp_X0_hear x1 v1 v2 v3 w fun r4 w5 => scV x0 nn sc (x3 + 1) fun v7 => scV x0 nn sc (x3 + 2) fun v8 => scV x0 nn sc (x3 + 3) fun v9 => cO w5 x2 0 <| wp_X5_hear x2 v7 v8 v9 w5 fun r10 w11 => ckI r4 <| ckI r10 <| br (r4 = r10) (wp_L_law_1403 nn sc K18 x0 x1 x2 x3 bc bs w11) (False)
def wp_L_law_822 (nn : Nat) (sc : Nat → Int) (K18 : Int → Nat → Nat → Wd → Prop) (x0 : Nat) (x1 : Nat) (x2 : Nat) (x3 : Int) (bc bs : Nat) (w : Wd) : Prop := cO w x1 1 <| wp_X0_forget x1 w fun r1 w2 => cO w2 x2 0 <| wp_X5_forget x2 w2 fun r4 w5 => ckI r1 <| ckI r4 <| br (r1 = r4) (wp_L_law_1403 nn sc K18 x0 x1 x2 x3 bc bs w5) (False)
def wp_L_law_835 (nn : Nat) (sc : Nat → Int) (K18 : Int → Nat → Nat → Wd → Prop) (x0 : Nat) (x1 : Nat) (x2 : Nat) (x3 : Int) (bc bs : Nat) (w : Wd) : Prop := cO w x1 1 <| wp_X0_which x1 w fun r1 w2 => cO w2 x2 0 <| wp_X5_which x2 w2 fun r4 w5 => ckI r1 <| ckI r4 <| br (r1 = r4) (wp_L_law_1403 nn sc K18 x0 x1 x2 x3 bc bs w5) (False)
def wp_L_law_848 (nn : Nat) (sc : Nat → Int) (K18 : Int → Nat → Nat → Wd → Prop) (x0 : Nat) (x1 : Nat) (x2 : Nat) (x3 : Int) (bc bs : Nat) (w : Wd) : Prop := scV x0 nn sc (x3 + 1) fun v1 => cO w x1 1 <| wp_X0_listen x1 v1 w fun r2 w3 => scV x0 nn sc (x3 + 1) fun v5 => cO w3 x2 0 <| wp_X5_listen x2 v5 w3 fun r6 w7 => ckI r2 <| ckI r6 <| br (r2 = r6) (wp_L_law_1403 nn sc K18 x0 x1 x2 x3 bc bs w7) (False)
def wp_L_law_871 (nn : Nat) (sc : Nat → Int) (K18 : Int → Nat → Nat → Wd → Prop) (x0 : Nat) (x1 : Nat) (x2 : Nat) (x3 : Int) (bc bs : Nat) (w : Wd) : Prop := scV x0 nn sc (x3 + 1) fun v1 => cO w x1 1 <| wp_X0_steady x1 v1 w fun r2 w3 => scV x0 nn sc (x3 + 1) fun v5 => cO w3 x2 0 <| wp_X5_steady x2 v5 w3 fun r6 w7 => ckI r2 <| ckI r6 <| br (r2 = r6) (wp_L_law_1403 nn sc K18 x0 x1 x2 x3 bc bs w7) (False)
def wp_L_law_894 (nn : Nat) (sc : Nat → Int) (K18 : Int → Nat → Nat → Wd → Prop) (x0 : Nat) (x1 : Nat) (x2 : Nat) (x3 : Int) (bc bs : Nat) (w : Wd) : Prop := scV x0 nn sc (x3 + 1) fun v1 => scV x0 nn sc (x3 + 2) fun v2 => cO w x1 1 <| wp_X0_about x1 v1 v2 w fun r3 w4 => scV x0 nn sc (x3 + 1) fun v6 => scV x0 nn sc (x3 + 2) fun v7 => cO w4 x2 0 <| wp_X5_about x2 v6 v7 w4 fun r8 w9 => ckI r3 <| ckI r8 <| br (r3 = r8) (wp_L_law_1403 nn sc K18 x0 x1 x2 x3 bc bs w9) (False)
def wp_L_law_927 (nn : Nat) (sc : Nat → Int) (K18 : Int → Nat → Nat → Wd → Prop) (x0 : Nat) (x1 : Nat) (x2 : Nat) (x3 : Int) (bc bs : Nat) (w : Wd) : Prop := scV x0 nn sc (x3 + 1) fun v1 => scV x0 nn sc (x3 + 2) fun v2 => scV x0 nn sc (x3 + 3) fun v3 => cO w x1 1 <| wp_X0_keep x1 v1 v2 v3 w fun r4 w5 => scV x0 nn sc (x3 + 1) fun v7 => scV x0 nn sc (x3 + 2) fun v8 => scV x0 nn sc (x3 + 3) fun v9 => cO w5 x2 0 <| wp_X5_keep x2 v7 v8 v9 w5 fun r10 w11 => ckI r4 <| ckI r10 <| br (r4 = r10) (wp_L_law_1403 nn sc K18 x0 x1 x2 x3 bc bs w11) (False)
def wp_L_law_970 (nn : Nat) (sc : Nat → Int) (K18 : Int → Nat → Nat → Wd → Prop) (x0 : Nat) (x1 : Nat) (x2 : Nat) (x3 : Int) (bc bs : Nat) (w : Wd) : Prop := scV x0 nn sc (x3 + 1) fun v1 => scV x0 nn sc (x3 + 2) fun v2 => scV x0 nn sc (x3 + 3) fun v3 => cO w x1 1 <| wp_X0_clash x1 v1 v2 v3 w fun r4 w5 => scV x0 nn sc (x3 + 1) fun v7 => scV x0 nn sc (x3 + 2) fun v8 => scV x0 nn sc (x3 + 3) fun v9 => cO w5 x2 0 <| wp_X5_clash x2 v7 v8 v9 w5 fun r10 w11 => ckI r4 <| ckI r10 <| br (r4 = r10) (wp_L_law_1403 nn sc K18 x0 x1 x2 x3 bc bs w11) (False)
def wp_L_law_1013 (nn : Nat) (sc : Nat → Int) (K18 : Int → Nat → Nat → Wd → Prop) (x0 : Nat) (x1 : Nat) (x2 : Nat) (x3 : Int) (bc bs : Nat) (w : Wd) : Prop := scV x0 nn sc (x3 + 1) fun v1 => scV x0 nn sc (x3 + 2) fun v2 => scV x0 nn sc (x3 + 3) fun v3 => cO w x1 1 <| wp_X0_best x1 v1 v2 v3 w fun r4 w5 => scV x0 nn sc (x3 + 1) fun v7 => scV x0 nn sc (x3 + 2) fun v8 => scV x0 nn sc (x3 + 3) fun v9 => cO w5 x2 0 <| wp_X5_best x2 v7 v8 v9 w5 fun r10 w11 => ckI r4 <| ckI r10 <| br (r4 = r10) (wp_L_law_1403 nn sc K18 x0 x1 x2 x3 bc bs w11) (False)
def wp_L_law_1056 (nn : Nat) (sc : Nat → Int) (K18 : Int → Nat → Nat → Wd → Prop) (x0 : Nat) (x1 : Nat) (x2 : Nat) (x3 : Int) (bc bs : Nat) (w : Wd) : Prop := scV x0 nn sc (x3 + 1) fun v1 => scV x0 nn sc (x3 + 2) fun v2 => scV x0 nn sc (x3 + 3) fun v3 => scV x0 nn sc (x3 + 4) fun v4 => cO w x1 1 <| wp_X0_filed x1 v1 v2 v3 v4 w fun r5 w6 => scV x0 nn sc (x3 + 1) fun v8 => scV x0 nn sc (x3 + 2) fun v9 => scV x0 nn sc (x3 + 3) fun v10 => scV x0 nn sc (x3 + 4) fun v11 => cO w6 x2 0 <| wp_X5_filed x2 v8 v9 v10 v11 w6 fun r12 w13 => ckI r5 <| ckI r12 <| br (r5 = r12) (wp_L_law_1403 nn sc K18 x0 x1 x2 x3 bc bs w13) (False)
def wp_L_law_1109 (nn : Nat) (sc : Nat → Int) (K18 : Int → Nat → Nat → Wd → Prop) (x0 : Nat) (x1 : Nat) (x2 : Nat) (x3 : Int) (bc bs : Nat) (w : Wd) : Prop := scV x0 nn sc (x3 + 1) fun v1 => scV x0 nn sc (x3 + 2) fun v2 => cO w x1 1 <| wp_X0_shares x1 v1 v2 w fun r3 w4 => scV x0 nn sc (x3 + 1) fun v6 => scV x0 nn sc (x3 + 2) fun v7 => cO w4 x2 0 <| wp_X5_shares x2 v6 v7 w4 fun r8 w9 => ckI r3 <| ckI r8 <| br (r3 = r8) (wp_L_law_1403 nn sc K18 x0 x1 x2 x3 bc bs w9) (False)
def wp_L_law_1142 (nn : Nat) (sc : Nat → Int) (K18 : Int → Nat → Nat → Wd → Prop) (x0 : Nat) (x1 : Nat) (x2 : Nat) (x3 : Int) (bc bs : Nat) (w : Wd) : Prop := scV x0 nn sc (x3 + 1) fun v1 => scV x0 nn sc (x3 + 2) fun v2 => cO w x1 1 <| wp_X0_again x1 v1 v2 w fun r3 w4 => scV x0 nn sc (x3 + 1) fun v6 => scV x0 nn sc (x3 + 2) fun v7 => cO w4 x2 0 <| wp_X5_again x2 v6 v7 w4 fun r8 w9 => ckI r3 <| ckI r8 <| br (r3 = r8) (wp_L_law_1403 nn sc K18 x0 x1 x2 x3 bc bs w9) (False)
def wp_L_law_1175 (nn : Nat) (sc : Nat → Int) (K18 : Int → Nat → Nat → Wd → Prop) (x0 : Nat) (x1 : Nat) (x2 : Nat) (x3 : Int) (bc bs : Nat) (w : Wd) : Prop := scV x0 nn sc (x3 + 1) fun v1 => cO w x1 1 <| wp_X0_ends x1 v1 w fun r2 w3 => scV x0 nn sc (x3 + 1) fun v5 => cO w3 x2 0 <| wp_X5_ends x2 v5 w3 fun r6 w7 => ckI r2 <| ckI r6 <| br (r2 = r6) (wp_L_law_1403 nn sc K18 x0 x1 x2 x3 bc bs w7) (False)
def wp_L_law_1198 (nn : Nat) (sc : Nat → Int) (K18 : Int → Nat → Nat → Wd → Prop) (x0 : Nat) (x1 : Nat) (x2 : Nat) (x3 : Int) (bc bs : Nat) (w : Wd) : Prop := scV x0 nn sc (x3 + 1) fun v1 => scV x0 nn sc (x3 + 2) fun v2 => cO w x1 1 <| wp_X0_stands x1 v1 v2 w fun r3 w4 => scV x0 nn sc (x3 + 1) fun v6 => scV x0 nn sc (x3 + 2) fun v7 => cO w4 x2 0 <| wp_X5_stands x2 v6 v7 w4 fun r8 w9 => ckL r3 <| ckL r8 <| br (r3 = r8) (wp_L_law_1403 nn sc K18 x0 x1 x2 x3 bc bs w9) (False)
def wp_L_law_1232 (nn : Nat) (sc : Nat → Int) (K18 : Int → Nat → Nat → Wd → Prop) (x0 : Nat) (x1 : Nat) (x2 : Nat) (x3 : Int) (bc bs : Nat) (w : Wd) : Prop := scV x0 nn sc (x3 + 1) fun v1 => cO w x1 1 <| wp_X0_compare x1 v1 w fun r2 w3 => scV x0 nn sc (x3 + 1) fun v5 => cO w3 x2 0 <| wp_X5_compare x2 v5 w3 fun r6 w7 => ckI r2 <| ckI r6 <| br (r2 = r6) (wp_L_law_1403 nn sc K18 x0 x1 x2 x3 bc bs w7) (False)
def wp_L_law_1255 (nn : Nat) (sc : Nat → Int) (K18 : Int → Nat → Nat → Wd → Prop) (x0 : Nat) (x1 : Nat) (x2 : Nat) (x3 : Int) (bc bs : Nat) (w : Wd) : Prop := scV x0 nn sc (x3 + 1) fun v1 => scV x0 nn sc (x3 + 2) fun v2 => cO w x1 1 <| wp_X0_generations x1 v1 v2 w fun r3 w4 => scV x0 nn sc (x3 + 1) fun v6 => scV x0 nn sc (x3 + 2) fun v7 => cO w4 x2 0 <| wp_X5_generations x2 v6 v7 w4 fun r8 w9 => ckI r3 <| ckI r8 <| br (r3 = r8) (wp_L_law_1403 nn sc K18 x0 x1 x2 x3 bc bs w9) (False)
def wp_L_law_1288 (nn : Nat) (sc : Nat → Int) (K18 : Int → Nat → Nat → Wd → Prop) (x0 : Nat) (x1 : Nat) (x2 : Nat) (x3 : Int) (bc bs : Nat) (w : Wd) : Prop := scV x0 nn sc (x3 + 1) fun v1 => scV x0 nn sc (x3 + 2) fun v2 => cO w x1 1 <| wp_X0_drawn x1 v1 v2 w fun r3 w4 => scV x0 nn sc (x3 + 1) fun v6 => scV x0 nn sc (x3 + 2) fun v7 => cO w4 x2 0 <| wp_X5_drawn x2 v6 v7 w4 fun r8 w9 => ckI r3 <| ckI r8 <| br (r3 = r8) (wp_L_law_1403 nn sc K18 x0 x1 x2 x3 bc bs w9) (False)
def wp_L_law_1321 (nn : Nat) (sc : Nat → Int) (K18 : Int → Nat → Nat → Wd → Prop) (x0 : Nat) (x1 : Nat) (x2 : Nat) (x3 : Int) (bc bs : Nat) (w : Wd) : Prop := scV x0 nn sc (x3 + 1) fun v1 => cO w x1 1 <| xB bc bs fun mc4 ms5 => wp_X0_image x1 v1 mc4 ms5 w fun r2 w3 => scV x0 nn sc (x3 + 1) fun v8 => cO w3 x2 0 <| wp_X5_image x2 v8 w3 fun r9 w10 => ckI r2 <| ckI r9 <| br (r2 = r9) (wp_L_law_1403 nn sc K18 x0 x1 x2 x3 (bc - mc4) (bs - ms5) w10) (False)
def wp_L_law_1344 (nn : Nat) (sc : Nat → Int) (K18 : Int → Nat → Nat → Wd → Prop) (x0 : Nat) (x1 : Nat) (x2 : Nat) (x3 : Int) (bc bs : Nat) (w : Wd) : Prop := scV x0 nn sc (x3 + 1) fun v1 => cO w x1 1 <| xB bc bs fun mc4 ms5 => wp_X0_back x1 v1 mc4 ms5 w fun r2 w3 => scV x0 nn sc (x3 + 1) fun v8 => cO w3 x2 0 <| wp_X5_back x2 v8 w3 fun r9 w10 => ckI r2 <| ckI r9 <| br (r2 = r9) (wp_L_law_1403 nn sc K18 x0 x1 x2 x3 (bc - mc4) (bs - ms5) w10) (False)
def wp_L_law_1367 (nn : Nat) (sc : Nat → Int) (K18 : Int → Nat → Nat → Wd → Prop) (x0 : Nat) (x1 : Nat) (x2 : Nat) (x3 : Int) (bc bs : Nat) (w : Wd) : Prop := scV x0 nn sc (x3 + 1) fun v1 => cO w x1 1 <| wp_X0_count x1 v1 w fun r2 w3 => scV x0 nn sc (x3 + 1) fun v5 => cO w3 x2 0 <| wp_X5_count x2 v5 w3 fun r6 w7 => ckI r2 <| ckI r6 <| br (r2 = r6) (wp_L_law_1403 nn sc K18 x0 x1 x2 x3 bc bs w7) (False)
def wp_L_law_1390 (nn : Nat) (sc : Nat → Int) (K18 : Int → Nat → Nat → Wd → Prop) (x0 : Nat) (x1 : Nat) (x2 : Nat) (x3 : Int) (bc bs : Nat) (w : Wd) : Prop := cO w x1 1 <| wp_X0_status x1 w fun r1 w2 => cO w2 x2 0 <| wp_X5_status x2 w2 fun r4 w5 => ckI r1 <| ckI r4 <| br (r1 = r4) (wp_L_law_1403 nn sc K18 x0 x1 x2 x3 bc bs w5) (False)
def wp_L_law_18 (nn : Nat) (sc : Nat → Int) (x0 : Nat) (x1 : Nat) (x2 : Nat) : Nat → Int → Nat → Nat → Wd → Prop
  | 0, _, _, _, _ => False
  | n + 1, x3, bc, bs, w => scN x0 nn fun v1 => ckI x3 <| ckI (v1 - 6) <| br ((v1 - 6) < x3) (True) (scV x0 nn sc x3 fun v4 => ckI (ian v4 63) <| br ((ian v4 63) = 0) (wp_L_law_216 nn sc (wp_L_law_18 nn sc x0 x1 x2 n) x0 x1 x2 x3 bc bs w) <| br ((ian v4 63) = 1) (wp_L_law_239 nn sc (wp_L_law_18 nn sc x0 x1 x2 n) x0 x1 x2 x3 bc bs w) <| br ((ian v4 63) = 2) (wp_L_law_272 nn sc (wp_L_law_18 nn sc x0 x1 x2 n) x0 x1 x2 x3 bc bs w) <| br ((ian v4 63) = 3) (wp_L_law_315 nn sc (wp_L_law_18 nn sc x0 x1 x2 n) x0 x1 x2 x3 bc bs w) <| br ((ian v4 63) = 4) (wp_L_law_348 nn sc (wp_L_law_18 nn sc x0 x1 x2 n) x0 x1 x2 x3 bc bs w) <| br ((ian v4 63) = 5) (wp_L_law_381 nn sc (wp_L_law_18 nn sc x0 x1 x2 n) x0 x1 x2 x3 bc bs w) <| br ((ian v4 63) = 6) (wp_L_law_424 nn sc (wp_L_law_18 nn sc x0 x1 x2 n) x0 x1 x2 x3 bc bs w) <| br ((ian v4 63) = 7) (wp_L_law_457 nn sc (wp_L_law_18 nn sc x0 x1 x2 n) x0 x1 x2 x3 bc bs w) <| br ((ian v4 63) = 8) (wp_L_law_520 nn sc (wp_L_law_18 nn sc x0 x1 x2 n) x0 x1 x2 x3 bc bs w) <| br ((ian v4 63) = 9) (wp_L_law_543 nn sc (wp_L_law_18 nn sc x0 x1 x2 n) x0 x1 x2 x3 bc bs w) <| br ((ian v4 63) = 10) (wp_L_law_556 nn sc (wp_L_law_18 nn sc x0 x1 x2 n) x0 x1 x2 x3 bc bs w) <| br ((ian v4 63) = 11) (wp_L_law_569 nn sc (wp_L_law_18 nn sc x0 x1 x2 n) x0 x1 x2 x3 bc bs w) <| br ((ian v4 63) = 12) (wp_L_law_582 nn sc (wp_L_law_18 nn sc x0 x1 x2 n) x0 x1 x2 x3 bc bs w) <| br ((ian v4 63) = 13) (wp_L_law_595 nn sc (wp_L_law_18 nn sc x0 x1 x2 n) x0 x1 x2 x3 bc bs w) <| br ((ian v4 63) = 14) (wp_L_law_608 nn sc (wp_L_law_18 nn sc x0 x1 x2 n) x0 x1 x2 x3 bc bs w) <| br ((ian v4 63) = 15) (wp_L_law_621 nn sc (wp_L_law_18 nn sc x0 x1 x2 n) x0 x1 x2 x3 bc bs w) <| br ((ian v4 63) = 16) (wp_L_law_644 nn sc (wp_L_law_18 nn sc x0 x1 x2 n) x0 x1 x2 x3 bc bs w) <| br ((ian v4 63) = 17) (wp_L_law_687 nn sc (wp_L_law_18 nn sc x0 x1 x2 n) x0 x1 x2 x3 bc bs w) <| br ((ian v4 63) = 18) (wp_L_law_720 nn sc (wp_L_law_18 nn sc x0 x1 x2 n) x0 x1 x2 x3 bc bs w) <| br ((ian v4 63) = 19) (wp_L_law_753 nn sc (wp_L_law_18 nn sc x0 x1 x2 n) x0 x1 x2 x3 bc bs w) <| br ((ian v4 63) = 20) (wp_L_law_766 nn sc (wp_L_law_18 nn sc x0 x1 x2 n) x0 x1 x2 x3 bc bs w) <| br ((ian v4 63) = 21) (wp_L_law_779 nn sc (wp_L_law_18 nn sc x0 x1 x2 n) x0 x1 x2 x3 bc bs w) <| br ((ian v4 63) = 22) (wp_L_law_822 nn sc (wp_L_law_18 nn sc x0 x1 x2 n) x0 x1 x2 x3 bc bs w) <| br ((ian v4 63) = 23) (wp_L_law_835 nn sc (wp_L_law_18 nn sc x0 x1 x2 n) x0 x1 x2 x3 bc bs w) <| br ((ian v4 63) = 24) (wp_L_law_848 nn sc (wp_L_law_18 nn sc x0 x1 x2 n) x0 x1 x2 x3 bc bs w) <| br ((ian v4 63) = 25) (wp_L_law_871 nn sc (wp_L_law_18 nn sc x0 x1 x2 n) x0 x1 x2 x3 bc bs w) <| br ((ian v4 63) = 26) (wp_L_law_894 nn sc (wp_L_law_18 nn sc x0 x1 x2 n) x0 x1 x2 x3 bc bs w) <| br ((ian v4 63) = 27) (wp_L_law_927 nn sc (wp_L_law_18 nn sc x0 x1 x2 n) x0 x1 x2 x3 bc bs w) <| br ((ian v4 63) = 28) (wp_L_law_970 nn sc (wp_L_law_18 nn sc x0 x1 x2 n) x0 x1 x2 x3 bc bs w) <| br ((ian v4 63) = 29) (wp_L_law_1013 nn sc (wp_L_law_18 nn sc x0 x1 x2 n) x0 x1 x2 x3 bc bs w) <| br ((ian v4 63) = 30) (wp_L_law_1056 nn sc (wp_L_law_18 nn sc x0 x1 x2 n) x0 x1 x2 x3 bc bs w) <| br ((ian v4 63) = 31) (wp_L_law_1109 nn sc (wp_L_law_18 nn sc x0 x1 x2 n) x0 x1 x2 x3 bc bs w) <| br ((ian v4 63) = 32) (wp_L_law_1142 nn sc (wp_L_law_18 nn sc x0 x1 x2 n) x0 x1 x2 x3 bc bs w) <| br ((ian v4 63) = 33) (wp_L_law_1175 nn sc (wp_L_law_18 nn sc x0 x1 x2 n) x0 x1 x2 x3 bc bs w) <| br ((ian v4 63) = 34) (wp_L_law_1198 nn sc (wp_L_law_18 nn sc x0 x1 x2 n) x0 x1 x2 x3 bc bs w) <| br ((ian v4 63) = 35) (wp_L_law_1232 nn sc (wp_L_law_18 nn sc x0 x1 x2 n) x0 x1 x2 x3 bc bs w) <| br ((ian v4 63) = 36) (wp_L_law_1255 nn sc (wp_L_law_18 nn sc x0 x1 x2 n) x0 x1 x2 x3 bc bs w) <| br ((ian v4 63) = 37) (wp_L_law_1288 nn sc (wp_L_law_18 nn sc x0 x1 x2 n) x0 x1 x2 x3 bc bs w) <| br ((ian v4 63) = 38) (wp_L_law_1321 nn sc (wp_L_law_18 nn sc x0 x1 x2 n) x0 x1 x2 x3 bc bs w) <| br ((ian v4 63) = 39) (wp_L_law_1344 nn sc (wp_L_law_18 nn sc x0 x1 x2 n) x0 x1 x2 x3 bc bs w) <| br ((ian v4 63) = 40) (wp_L_law_1367 nn sc (wp_L_law_18 nn sc x0 x1 x2 n) x0 x1 x2 x3 bc bs w) <| br ((ian v4 63) = 41) (wp_L_law_1390 nn sc (wp_L_law_18 nn sc x0 x1 x2 n) x0 x1 x2 x3 bc bs w) <| wp_L_law_1403 nn sc (wp_L_law_18 nn sc x0 x1 x2 n) x0 x1 x2 x3 bc bs w)
def wp_L_law_it (nn : Nat) (sc : Nat → Int) (K18 : Int → Nat → Nat → Wd → Prop) (x0 : Nat) (x1 : Nat) (x2 : Nat) (x3 : Int) (bc bs : Nat) (w : Wd) : Prop := scN x0 nn fun v1 => ckI x3 <| ckI (v1 - 6) <| br ((v1 - 6) < x3) (True) (scV x0 nn sc x3 fun v4 => ckI (ian v4 63) <| br ((ian v4 63) = 0) (wp_L_law_216 nn sc K18 x0 x1 x2 x3 bc bs w) <| br ((ian v4 63) = 1) (wp_L_law_239 nn sc K18 x0 x1 x2 x3 bc bs w) <| br ((ian v4 63) = 2) (wp_L_law_272 nn sc K18 x0 x1 x2 x3 bc bs w) <| br ((ian v4 63) = 3) (wp_L_law_315 nn sc K18 x0 x1 x2 x3 bc bs w) <| br ((ian v4 63) = 4) (wp_L_law_348 nn sc K18 x0 x1 x2 x3 bc bs w) <| br ((ian v4 63) = 5) (wp_L_law_381 nn sc K18 x0 x1 x2 x3 bc bs w) <| br ((ian v4 63) = 6) (wp_L_law_424 nn sc K18 x0 x1 x2 x3 bc bs w) <| br ((ian v4 63) = 7) (wp_L_law_457 nn sc K18 x0 x1 x2 x3 bc bs w) <| br ((ian v4 63) = 8) (wp_L_law_520 nn sc K18 x0 x1 x2 x3 bc bs w) <| br ((ian v4 63) = 9) (wp_L_law_543 nn sc K18 x0 x1 x2 x3 bc bs w) <| br ((ian v4 63) = 10) (wp_L_law_556 nn sc K18 x0 x1 x2 x3 bc bs w) <| br ((ian v4 63) = 11) (wp_L_law_569 nn sc K18 x0 x1 x2 x3 bc bs w) <| br ((ian v4 63) = 12) (wp_L_law_582 nn sc K18 x0 x1 x2 x3 bc bs w) <| br ((ian v4 63) = 13) (wp_L_law_595 nn sc K18 x0 x1 x2 x3 bc bs w) <| br ((ian v4 63) = 14) (wp_L_law_608 nn sc K18 x0 x1 x2 x3 bc bs w) <| br ((ian v4 63) = 15) (wp_L_law_621 nn sc K18 x0 x1 x2 x3 bc bs w) <| br ((ian v4 63) = 16) (wp_L_law_644 nn sc K18 x0 x1 x2 x3 bc bs w) <| br ((ian v4 63) = 17) (wp_L_law_687 nn sc K18 x0 x1 x2 x3 bc bs w) <| br ((ian v4 63) = 18) (wp_L_law_720 nn sc K18 x0 x1 x2 x3 bc bs w) <| br ((ian v4 63) = 19) (wp_L_law_753 nn sc K18 x0 x1 x2 x3 bc bs w) <| br ((ian v4 63) = 20) (wp_L_law_766 nn sc K18 x0 x1 x2 x3 bc bs w) <| br ((ian v4 63) = 21) (wp_L_law_779 nn sc K18 x0 x1 x2 x3 bc bs w) <| br ((ian v4 63) = 22) (wp_L_law_822 nn sc K18 x0 x1 x2 x3 bc bs w) <| br ((ian v4 63) = 23) (wp_L_law_835 nn sc K18 x0 x1 x2 x3 bc bs w) <| br ((ian v4 63) = 24) (wp_L_law_848 nn sc K18 x0 x1 x2 x3 bc bs w) <| br ((ian v4 63) = 25) (wp_L_law_871 nn sc K18 x0 x1 x2 x3 bc bs w) <| br ((ian v4 63) = 26) (wp_L_law_894 nn sc K18 x0 x1 x2 x3 bc bs w) <| br ((ian v4 63) = 27) (wp_L_law_927 nn sc K18 x0 x1 x2 x3 bc bs w) <| br ((ian v4 63) = 28) (wp_L_law_970 nn sc K18 x0 x1 x2 x3 bc bs w) <| br ((ian v4 63) = 29) (wp_L_law_1013 nn sc K18 x0 x1 x2 x3 bc bs w) <| br ((ian v4 63) = 30) (wp_L_law_1056 nn sc K18 x0 x1 x2 x3 bc bs w) <| br ((ian v4 63) = 31) (wp_L_law_1109 nn sc K18 x0 x1 x2 x3 bc bs w) <| br ((ian v4 63) = 32) (wp_L_law_1142 nn sc K18 x0 x1 x2 x3 bc bs w) <| br ((ian v4 63) = 33) (wp_L_law_1175 nn sc K18 x0 x1 x2 x3 bc bs w) <| br ((ian v4 63) = 34) (wp_L_law_1198 nn sc K18 x0 x1 x2 x3 bc bs w) <| br ((ian v4 63) = 35) (wp_L_law_1232 nn sc K18 x0 x1 x2 x3 bc bs w) <| br ((ian v4 63) = 36) (wp_L_law_1255 nn sc K18 x0 x1 x2 x3 bc bs w) <| br ((ian v4 63) = 37) (wp_L_law_1288 nn sc K18 x0 x1 x2 x3 bc bs w) <| br ((ian v4 63) = 38) (wp_L_law_1321 nn sc K18 x0 x1 x2 x3 bc bs w) <| br ((ian v4 63) = 39) (wp_L_law_1344 nn sc K18 x0 x1 x2 x3 bc bs w) <| br ((ian v4 63) = 40) (wp_L_law_1367 nn sc K18 x0 x1 x2 x3 bc bs w) <| br ((ian v4 63) = 41) (wp_L_law_1390 nn sc K18 x0 x1 x2 x3 bc bs w) <| wp_L_law_1403 nn sc K18 x0 x1 x2 x3 bc bs w)
def wp_L_law (K18 : Nat → Nat → Nat → Nat → Wd → Prop) (x0 : Nat) (bc bs : Nat) (w : Wd) : Prop := wnO w 1 bc bs fun k1 w2 => xB (bc - 1) (bs - nfA 1) fun mc4 ms5 => wp_X0_init k1 mc4 ms5 w2 fun w3 => wnO w3 0 (bc - 1 - mc4) (bs - nfA 1 - ms5) fun k7 w8 => xB (bc - 1 - mc4 - 1) (bs - nfA 1 - ms5 - nfA 0) fun mc10 ms11 => wp_X5_init k7 mc10 ms11 w8 fun w9 => K18 k1 k7 (bc - 1 - mc4 - 1 - mc10) (bs - nfA 1 - ms5 - nfA 0 - ms11) w9
theorem wk_L_law_1403 {x : Cx} {nn : Nat} {sc : Nat → Int} {Z : State → Prop} (O : OK x "DowryBoxesLaw" cL_law 113) (hm : xn x = 4) (hsc : SCR x nn sc) (hend : LEND x Z) (K18 : Int → Nat → Nat → Wd → Prop) (x0 : Nat) (x1 : Nat) (x2 : Nat) (x3 : Int) (hK18 : ∀ (y3 : Int) (bc bs : Nat) (w : Wd), K18 y3 bc bs w → J x Z w bc bs 18 [(0, .ref (adG (xG x) (x0))), (1, .ref (adG (xG x) (x1))), (2, .ref (adG (xG x) (x2))), (3, vI (y3))] []) (bc bs : Nat) (w : Wd) (h : wp_L_law_1403 nn sc K18 x0 x1 x2 x3 bc bs w) : J x Z w bc bs 1403 [(0, .ref (adG (xG x) (x0))), (1, .ref (adG (xG x) (x1))), (2, .ref (adG (xG x) (x2))), (3, vI (x3))] [] := by
  unfold wp_L_law_1403 at h
  refine j_iinc (L' := [(3, vI (x3 + 6)), (0, .ref (adG (xG x) (x0))), (1, .ref (adG (xG x) (x1))), (2, .ref (adG (xG x) (x2)))]) O 3 dL_law_1403 rfl (by rw [hm]; decide) rfl ?_
  refine j_goto O (tgt := 18) dL_law_1406 (by decide) ?_
  exact (J.sub [1, 2, 3, 0] rfl <| hK18 _ _ _ _ h)
theorem wk_L_law_216 {x : Cx} {nn : Nat} {sc : Nat → Int} {Z : State → Prop} (O : OK x "DowryBoxesLaw" cL_law 113) (hm : xn x = 4) (hsc : SCR x nn sc) (hend : LEND x Z) (K18 : Int → Nat → Nat → Wd → Prop) (x0 : Nat) (x1 : Nat) (x2 : Nat) (x3 : Int) (hK18 : ∀ (y3 : Int) (bc bs : Nat) (w : Wd), K18 y3 bc bs w → J x Z w bc bs 18 [(0, .ref (adG (xG x) (x0))), (1, .ref (adG (xG x) (x1))), (2, .ref (adG (xG x) (x2))), (3, vI (y3))] []) (bc bs : Nat) (w : Wd) (h : wp_L_law_216 nn sc K18 x0 x1 x2 x3 bc bs w) : J x Z w bc bs 216 [(0, .ref (adG (xG x) (x0))), (1, .ref (adG (xG x) (x1))), (2, .ref (adG (xG x) (x2))), (3, vI (x3))] [] := by
  unfold wp_L_law_216 at h
  refine j_aload_n O 1 1 dL_law_216 rfl rfl ?_
  refine j_aload_n O 0 0 dL_law_217 rfl rfl ?_
  refine j_iload_n O 3 3 dL_law_218 rfl rfl ?_
  refine j_iconst O dL_law_219 ?_
  refine j_iadd O dL_law_220 ?_
  refine j_scV O hsc dL_law_221 h (fun v1 h => ?_)
  obtain ⟨e4, h⟩ := h
  refine fin_I O ⟨Nat.zero_le _, Nat.zero_le _⟩ (run_V (As := [vI (v1)]) (st := []) O (mt_X0_box (xl x) (xG x) _ _ _ _ h) e4 cfX0.1 q570 q571 q572 q121 q573 hy_X0_box (Nat.le_of_ble_eq_true rfl) (Nat.le_of_ble_eq_true rfl) ⟨Nat.zero_le _, Nat.zero_le _⟩ rfl (Nat.le_of_ble_eq_true rfl) dL_law_222) (fun r2 w3 h => ?_)
  refine j_aload_n O 2 2 dL_law_225 rfl rfl ?_
  refine j_aload_n O 0 0 dL_law_226 rfl rfl ?_
  refine j_iload_n O 3 3 dL_law_227 rfl rfl ?_
  refine j_iconst O dL_law_228 ?_
  refine j_iadd O dL_law_229 ?_
  refine j_scV O hsc dL_law_230 h (fun v5 h => ?_)
  obtain ⟨e8, h⟩ := h
  refine fin_I O ⟨Nat.zero_le _, Nat.zero_le _⟩ (run_V (As := [vI (v5)]) (st := [vI (r2)]) O (mt_X5_box (xl x) (xG x) _ _ _ _ h) e8 cfX5.1 q1783 q1784 q1785 q131 q1786 hy_X5_box (Nat.le_of_ble_eq_true rfl) (Nat.le_of_ble_eq_true rfl) ⟨Nat.zero_le _, Nat.zero_le _⟩ rfl (Nat.le_of_ble_eq_true rfl) dL_law_231) (fun r6 w7 h => ?_)
  obtain ⟨c9, h⟩ := h
  obtain ⟨c10, h⟩ := h
  refine j_icmp_eq O (tgt := 1403) dL_law_234 (by decide) c9 c10 h (fun h => ?_) (fun h => ?_)
  · exact (J.sub [0, 1, 2, 3] rfl <| wk_L_law_1403 O hm hsc hend _ _ _ _ _ hK18 _ _ _ h)
  · refine j_iconst O dL_law_237 ?_
    exact False.elim h
theorem wk_L_law_239 {x : Cx} {nn : Nat} {sc : Nat → Int} {Z : State → Prop} (O : OK x "DowryBoxesLaw" cL_law 113) (hm : xn x = 4) (hsc : SCR x nn sc) (hend : LEND x Z) (K18 : Int → Nat → Nat → Wd → Prop) (x0 : Nat) (x1 : Nat) (x2 : Nat) (x3 : Int) (hK18 : ∀ (y3 : Int) (bc bs : Nat) (w : Wd), K18 y3 bc bs w → J x Z w bc bs 18 [(0, .ref (adG (xG x) (x0))), (1, .ref (adG (xG x) (x1))), (2, .ref (adG (xG x) (x2))), (3, vI (y3))] []) (bc bs : Nat) (w : Wd) (h : wp_L_law_239 nn sc K18 x0 x1 x2 x3 bc bs w) : J x Z w bc bs 239 [(0, .ref (adG (xG x) (x0))), (1, .ref (adG (xG x) (x1))), (2, .ref (adG (xG x) (x2))), (3, vI (x3))] [] := by
  unfold wp_L_law_239 at h
  refine j_aload_n O 1 1 dL_law_239 rfl rfl ?_
  refine j_aload_n O 0 0 dL_law_240 rfl rfl ?_
  refine j_iload_n O 3 3 dL_law_241 rfl rfl ?_
  refine j_iconst O dL_law_242 ?_
  refine j_iadd O dL_law_243 ?_
  refine j_scV O hsc dL_law_244 h (fun v1 h => ?_)
  refine j_aload_n O 0 0 dL_law_245 rfl rfl ?_
  refine j_iload_n O 3 3 dL_law_246 rfl rfl ?_
  refine j_iconst O dL_law_247 ?_
  refine j_iadd O dL_law_248 ?_
  refine j_scV O hsc dL_law_249 h (fun v2 h => ?_)
  obtain ⟨e5, h⟩ := h
  refine fin_I O ⟨Nat.zero_le _, Nat.zero_le _⟩ (run_V (As := [vI (v1), vI (v2)]) (st := []) O (mt_X0_of (xl x) (xG x) _ _ _ _ _ h) e5 cfX0.1 q578 q579 q580 q121 q581 hy_X0_of (Nat.le_of_ble_eq_true rfl) (Nat.le_of_ble_eq_true rfl) ⟨Nat.zero_le _, Nat.zero_le _⟩ rfl (Nat.le_of_ble_eq_true rfl) dL_law_250) (fun r3 w4 h => ?_)
  refine j_aload_n O 2 2 dL_law_253 rfl rfl ?_
  refine j_aload_n O 0 0 dL_law_254 rfl rfl ?_
  refine j_iload_n O 3 3 dL_law_255 rfl rfl ?_
  refine j_iconst O dL_law_256 ?_
  refine j_iadd O dL_law_257 ?_
  refine j_scV O hsc dL_law_258 h (fun v6 h => ?_)
  refine j_aload_n O 0 0 dL_law_259 rfl rfl ?_
  refine j_iload_n O 3 3 dL_law_260 rfl rfl ?_
  refine j_iconst O dL_law_261 ?_
  refine j_iadd O dL_law_262 ?_
  refine j_scV O hsc dL_law_263 h (fun v7 h => ?_)
  obtain ⟨e10, h⟩ := h
  refine fin_I O ⟨Nat.zero_le _, Nat.zero_le _⟩ (run_V (As := [vI (v6), vI (v7)]) (st := [vI (r3)]) O (mt_X5_of (xl x) (xG x) _ _ _ _ _ h) e10 cfX5.1 q1788 q1789 q1790 q131 q1791 hy_X5_of (Nat.le_of_ble_eq_true rfl) (Nat.le_of_ble_eq_true rfl) ⟨Nat.zero_le _, Nat.zero_le _⟩ rfl (Nat.le_of_ble_eq_true rfl) dL_law_264) (fun r8 w9 h => ?_)
  obtain ⟨c11, h⟩ := h
  obtain ⟨c12, h⟩ := h
  refine j_icmp_eq O (tgt := 1403) dL_law_267 (by decide) c11 c12 h (fun h => ?_) (fun h => ?_)
  · exact (J.sub [0, 1, 2, 3] rfl <| wk_L_law_1403 O hm hsc hend _ _ _ _ _ hK18 _ _ _ h)
  · refine j_iconst O dL_law_270 ?_
    exact False.elim h
theorem wk_L_law_272 {x : Cx} {nn : Nat} {sc : Nat → Int} {Z : State → Prop} (O : OK x "DowryBoxesLaw" cL_law 113) (hm : xn x = 4) (hsc : SCR x nn sc) (hend : LEND x Z) (K18 : Int → Nat → Nat → Wd → Prop) (x0 : Nat) (x1 : Nat) (x2 : Nat) (x3 : Int) (hK18 : ∀ (y3 : Int) (bc bs : Nat) (w : Wd), K18 y3 bc bs w → J x Z w bc bs 18 [(0, .ref (adG (xG x) (x0))), (1, .ref (adG (xG x) (x1))), (2, .ref (adG (xG x) (x2))), (3, vI (y3))] []) (bc bs : Nat) (w : Wd) (h : wp_L_law_272 nn sc K18 x0 x1 x2 x3 bc bs w) : J x Z w bc bs 272 [(0, .ref (adG (xG x) (x0))), (1, .ref (adG (xG x) (x1))), (2, .ref (adG (xG x) (x2))), (3, vI (x3))] [] := by
  unfold wp_L_law_272 at h
  refine j_aload_n O 1 1 dL_law_272 rfl rfl ?_
  refine j_aload_n O 0 0 dL_law_273 rfl rfl ?_
  refine j_iload_n O 3 3 dL_law_274 rfl rfl ?_
  refine j_iconst O dL_law_275 ?_
  refine j_iadd O dL_law_276 ?_
  refine j_scV O hsc dL_law_277 h (fun v1 h => ?_)
  refine j_aload_n O 0 0 dL_law_278 rfl rfl ?_
  refine j_iload_n O 3 3 dL_law_279 rfl rfl ?_
  refine j_iconst O dL_law_280 ?_
  refine j_iadd O dL_law_281 ?_
  refine j_scV O hsc dL_law_282 h (fun v2 h => ?_)
  refine j_aload_n O 0 0 dL_law_283 rfl rfl ?_
  refine j_iload_n O 3 3 dL_law_284 rfl rfl ?_
  refine j_iconst O dL_law_285 ?_
  refine j_iadd O dL_law_286 ?_
  refine j_scV O hsc dL_law_287 h (fun v3 h => ?_)
  obtain ⟨e6, h⟩ := h
  refine fin_I O ⟨Nat.zero_le _, Nat.zero_le _⟩ (run_V (As := [vI (v1), vI (v2), vI (v3)]) (st := []) O (mt_X0_pins (xl x) (xG x) _ _ _ _ _ _ h) e6 cfX0.1 q708 q709 q710 q121 q711 hy_X0_pins (Nat.le_of_ble_eq_true rfl) (Nat.le_of_ble_eq_true rfl) ⟨Nat.zero_le _, Nat.zero_le _⟩ rfl (Nat.le_of_ble_eq_true rfl) dL_law_288) (fun r4 w5 h => ?_)
  refine j_aload_n O 2 2 dL_law_291 rfl rfl ?_
  refine j_aload_n O 0 0 dL_law_292 rfl rfl ?_
  refine j_iload_n O 3 3 dL_law_293 rfl rfl ?_
  refine j_iconst O dL_law_294 ?_
  refine j_iadd O dL_law_295 ?_
  refine j_scV O hsc dL_law_296 h (fun v7 h => ?_)
  refine j_aload_n O 0 0 dL_law_297 rfl rfl ?_
  refine j_iload_n O 3 3 dL_law_298 rfl rfl ?_
  refine j_iconst O dL_law_299 ?_
  refine j_iadd O dL_law_300 ?_
  refine j_scV O hsc dL_law_301 h (fun v8 h => ?_)
  refine j_aload_n O 0 0 dL_law_302 rfl rfl ?_
  refine j_iload_n O 3 3 dL_law_303 rfl rfl ?_
  refine j_iconst O dL_law_304 ?_
  refine j_iadd O dL_law_305 ?_
  refine j_scV O hsc dL_law_306 h (fun v9 h => ?_)
  obtain ⟨e12, h⟩ := h
  refine fin_I O ⟨Nat.zero_le _, Nat.zero_le _⟩ (run_V (As := [vI (v7), vI (v8), vI (v9)]) (st := [vI (r4)]) O (mt_X5_pins (xl x) (xG x) _ _ _ _ _ _ h) e12 cfX5.1 q1842 q1843 q1844 q131 q1845 hy_X5_pins (Nat.le_of_ble_eq_true rfl) (Nat.le_of_ble_eq_true rfl) ⟨Nat.zero_le _, Nat.zero_le _⟩ rfl (Nat.le_of_ble_eq_true rfl) dL_law_307) (fun r10 w11 h => ?_)
  obtain ⟨c13, h⟩ := h
  obtain ⟨c14, h⟩ := h
  refine j_icmp_eq O (tgt := 1403) dL_law_310 (by decide) c13 c14 h (fun h => ?_) (fun h => ?_)
  · exact (J.sub [0, 1, 2, 3] rfl <| wk_L_law_1403 O hm hsc hend _ _ _ _ _ hK18 _ _ _ h)
  · refine j_iconst O dL_law_313 ?_
    exact False.elim h
theorem wk_L_law_315 {x : Cx} {nn : Nat} {sc : Nat → Int} {Z : State → Prop} (O : OK x "DowryBoxesLaw" cL_law 113) (hm : xn x = 4) (hsc : SCR x nn sc) (hend : LEND x Z) (K18 : Int → Nat → Nat → Wd → Prop) (x0 : Nat) (x1 : Nat) (x2 : Nat) (x3 : Int) (hK18 : ∀ (y3 : Int) (bc bs : Nat) (w : Wd), K18 y3 bc bs w → J x Z w bc bs 18 [(0, .ref (adG (xG x) (x0))), (1, .ref (adG (xG x) (x1))), (2, .ref (adG (xG x) (x2))), (3, vI (y3))] []) (bc bs : Nat) (w : Wd) (h : wp_L_law_315 nn sc K18 x0 x1 x2 x3 bc bs w) : J x Z w bc bs 315 [(0, .ref (adG (xG x) (x0))), (1, .ref (adG (xG x) (x1))), (2, .ref (adG (xG x) (x2))), (3, vI (x3))] [] := by
  unfold wp_L_law_315 at h
  refine j_aload_n O 1 1 dL_law_315 rfl rfl ?_
  refine j_aload_n O 0 0 dL_law_316 rfl rfl ?_
  refine j_iload_n O 3 3 dL_law_317 rfl rfl ?_
  refine j_iconst O dL_law_318 ?_
  refine j_iadd O dL_law_319 ?_
  refine j_scV O hsc dL_law_320 h (fun v1 h => ?_)
  refine j_aload_n O 0 0 dL_law_321 rfl rfl ?_
  refine j_iload_n O 3 3 dL_law_322 rfl rfl ?_
  refine j_iconst O dL_law_323 ?_
  refine j_iadd O dL_law_324 ?_
  refine j_scV O hsc dL_law_325 h (fun v2 h => ?_)
  obtain ⟨e5, h⟩ := h
  refine fin_I O ⟨Nat.zero_le _, Nat.zero_le _⟩ (run_V (As := [vI (v1), vI (v2)]) (st := []) O (mt_X0_suitor (xl x) (xG x) _ _ _ _ _ h) e5 cfX0.1 q718 q719 q720 q121 q721 hy_X0_suitor (Nat.le_of_ble_eq_true rfl) (Nat.le_of_ble_eq_true rfl) ⟨Nat.zero_le _, Nat.zero_le _⟩ rfl (Nat.le_of_ble_eq_true rfl) dL_law_326) (fun r3 w4 h => ?_)
  refine j_aload_n O 2 2 dL_law_329 rfl rfl ?_
  refine j_aload_n O 0 0 dL_law_330 rfl rfl ?_
  refine j_iload_n O 3 3 dL_law_331 rfl rfl ?_
  refine j_iconst O dL_law_332 ?_
  refine j_iadd O dL_law_333 ?_
  refine j_scV O hsc dL_law_334 h (fun v6 h => ?_)
  refine j_aload_n O 0 0 dL_law_335 rfl rfl ?_
  refine j_iload_n O 3 3 dL_law_336 rfl rfl ?_
  refine j_iconst O dL_law_337 ?_
  refine j_iadd O dL_law_338 ?_
  refine j_scV O hsc dL_law_339 h (fun v7 h => ?_)
  obtain ⟨e10, h⟩ := h
  refine fin_I O ⟨Nat.zero_le _, Nat.zero_le _⟩ (run_V (As := [vI (v6), vI (v7)]) (st := [vI (r3)]) O (mt_X5_suitor (xl x) (xG x) _ _ _ _ _ h) e10 cfX5.1 q1855 q1856 q1857 q131 q1858 hy_X5_suitor (Nat.le_of_ble_eq_true rfl) (Nat.le_of_ble_eq_true rfl) ⟨Nat.zero_le _, Nat.zero_le _⟩ rfl (Nat.le_of_ble_eq_true rfl) dL_law_340) (fun r8 w9 h => ?_)
  obtain ⟨c11, h⟩ := h
  obtain ⟨c12, h⟩ := h
  refine j_icmp_eq O (tgt := 1403) dL_law_343 (by decide) c11 c12 h (fun h => ?_) (fun h => ?_)
  · exact (J.sub [0, 1, 2, 3] rfl <| wk_L_law_1403 O hm hsc hend _ _ _ _ _ hK18 _ _ _ h)
  · refine j_iconst O dL_law_346 ?_
    exact False.elim h
theorem wk_L_law_348 {x : Cx} {nn : Nat} {sc : Nat → Int} {Z : State → Prop} (O : OK x "DowryBoxesLaw" cL_law 113) (hm : xn x = 4) (hsc : SCR x nn sc) (hend : LEND x Z) (K18 : Int → Nat → Nat → Wd → Prop) (x0 : Nat) (x1 : Nat) (x2 : Nat) (x3 : Int) (hK18 : ∀ (y3 : Int) (bc bs : Nat) (w : Wd), K18 y3 bc bs w → J x Z w bc bs 18 [(0, .ref (adG (xG x) (x0))), (1, .ref (adG (xG x) (x1))), (2, .ref (adG (xG x) (x2))), (3, vI (y3))] []) (bc bs : Nat) (w : Wd) (h : wp_L_law_348 nn sc K18 x0 x1 x2 x3 bc bs w) : J x Z w bc bs 348 [(0, .ref (adG (xG x) (x0))), (1, .ref (adG (xG x) (x1))), (2, .ref (adG (xG x) (x2))), (3, vI (x3))] [] := by
  unfold wp_L_law_348 at h
  refine j_aload_n O 1 1 dL_law_348 rfl rfl ?_
  refine j_aload_n O 0 0 dL_law_349 rfl rfl ?_
  refine j_iload_n O 3 3 dL_law_350 rfl rfl ?_
  refine j_iconst O dL_law_351 ?_
  refine j_iadd O dL_law_352 ?_
  refine j_scV O hsc dL_law_353 h (fun v1 h => ?_)
  refine j_aload_n O 0 0 dL_law_354 rfl rfl ?_
  refine j_iload_n O 3 3 dL_law_355 rfl rfl ?_
  refine j_iconst O dL_law_356 ?_
  refine j_iadd O dL_law_357 ?_
  refine j_scV O hsc dL_law_358 h (fun v2 h => ?_)
  obtain ⟨e5, h⟩ := h
  refine fin_I O ⟨Nat.zero_le _, Nat.zero_le _⟩ (run_V (As := [vI (v1), vI (v2)]) (st := []) O (mt_X0_at (xl x) (xG x) _ _ _ _ _ h) e5 cfX0.1 q725 q726 q727 q121 q728 hy_X0_at (Nat.le_of_ble_eq_true rfl) (Nat.le_of_ble_eq_true rfl) ⟨Nat.zero_le _, Nat.zero_le _⟩ rfl (Nat.le_of_ble_eq_true rfl) dL_law_359) (fun r3 w4 h => ?_)
  refine j_aload_n O 2 2 dL_law_362 rfl rfl ?_
  refine j_aload_n O 0 0 dL_law_363 rfl rfl ?_
  refine j_iload_n O 3 3 dL_law_364 rfl rfl ?_
  refine j_iconst O dL_law_365 ?_
  refine j_iadd O dL_law_366 ?_
  refine j_scV O hsc dL_law_367 h (fun v6 h => ?_)
  refine j_aload_n O 0 0 dL_law_368 rfl rfl ?_
  refine j_iload_n O 3 3 dL_law_369 rfl rfl ?_
  refine j_iconst O dL_law_370 ?_
  refine j_iadd O dL_law_371 ?_
  refine j_scV O hsc dL_law_372 h (fun v7 h => ?_)
  obtain ⟨e10, h⟩ := h
  refine fin_I O ⟨Nat.zero_le _, Nat.zero_le _⟩ (run_V (As := [vI (v6), vI (v7)]) (st := [vI (r3)]) O (mt_X5_at (xl x) (xG x) _ _ _ _ _ h) e10 cfX5.1 q1863 q1864 q1865 q131 q1866 hy_X5_at (Nat.le_of_ble_eq_true rfl) (Nat.le_of_ble_eq_true rfl) ⟨Nat.zero_le _, Nat.zero_le _⟩ rfl (Nat.le_of_ble_eq_true rfl) dL_law_373) (fun r8 w9 h => ?_)
  obtain ⟨c11, h⟩ := h
  obtain ⟨c12, h⟩ := h
  refine j_icmp_eq O (tgt := 1403) dL_law_376 (by decide) c11 c12 h (fun h => ?_) (fun h => ?_)
  · exact (J.sub [0, 1, 2, 3] rfl <| wk_L_law_1403 O hm hsc hend _ _ _ _ _ hK18 _ _ _ h)
  · refine j_iconst O dL_law_379 ?_
    exact False.elim h
theorem wk_L_law_381 {x : Cx} {nn : Nat} {sc : Nat → Int} {Z : State → Prop} (O : OK x "DowryBoxesLaw" cL_law 113) (hm : xn x = 4) (hsc : SCR x nn sc) (hend : LEND x Z) (K18 : Int → Nat → Nat → Wd → Prop) (x0 : Nat) (x1 : Nat) (x2 : Nat) (x3 : Int) (hK18 : ∀ (y3 : Int) (bc bs : Nat) (w : Wd), K18 y3 bc bs w → J x Z w bc bs 18 [(0, .ref (adG (xG x) (x0))), (1, .ref (adG (xG x) (x1))), (2, .ref (adG (xG x) (x2))), (3, vI (y3))] []) (bc bs : Nat) (w : Wd) (h : wp_L_law_381 nn sc K18 x0 x1 x2 x3 bc bs w) : J x Z w bc bs 381 [(0, .ref (adG (xG x) (x0))), (1, .ref (adG (xG x) (x1))), (2, .ref (adG (xG x) (x2))), (3, vI (x3))] [] := by
  unfold wp_L_law_381 at h
  refine j_aload_n O 1 1 dL_law_381 rfl rfl ?_
  refine j_aload_n O 0 0 dL_law_382 rfl rfl ?_
  refine j_iload_n O 3 3 dL_law_383 rfl rfl ?_
  refine j_iconst O dL_law_384 ?_
  refine j_iadd O dL_law_385 ?_
  refine j_scV O hsc dL_law_386 h (fun v1 h => ?_)
  refine j_aload_n O 0 0 dL_law_387 rfl rfl ?_
  refine j_iload_n O 3 3 dL_law_388 rfl rfl ?_
  refine j_iconst O dL_law_389 ?_
  refine j_iadd O dL_law_390 ?_
  refine j_scV O hsc dL_law_391 h (fun v2 h => ?_)
  refine j_aload_n O 0 0 dL_law_392 rfl rfl ?_
  refine j_iload_n O 3 3 dL_law_393 rfl rfl ?_
  refine j_iconst O dL_law_394 ?_
  refine j_iadd O dL_law_395 ?_
  refine j_scV O hsc dL_law_396 h (fun v3 h => ?_)
  obtain ⟨e6, h⟩ := h
  refine fin_I O ⟨Nat.zero_le _, Nat.zero_le _⟩ (run_V (As := [vI (v1), vI (v2), vI (v3)]) (st := []) O (mt_X0_asks (xl x) (xG x) _ _ _ _ _ _ h) e6 cfX0.1 q737 q738 q739 q121 q740 hy_X0_asks (Nat.le_of_ble_eq_true rfl) (Nat.le_of_ble_eq_true rfl) ⟨Nat.zero_le _, Nat.zero_le _⟩ rfl (Nat.le_of_ble_eq_true rfl) dL_law_397) (fun r4 w5 h => ?_)
  refine j_aload_n O 2 2 dL_law_400 rfl rfl ?_
  refine j_aload_n O 0 0 dL_law_401 rfl rfl ?_
  refine j_iload_n O 3 3 dL_law_402 rfl rfl ?_
  refine j_iconst O dL_law_403 ?_
  refine j_iadd O dL_law_404 ?_
  refine j_scV O hsc dL_law_405 h (fun v7 h => ?_)
  refine j_aload_n O 0 0 dL_law_406 rfl rfl ?_
  refine j_iload_n O 3 3 dL_law_407 rfl rfl ?_
  refine j_iconst O dL_law_408 ?_
  refine j_iadd O dL_law_409 ?_
  refine j_scV O hsc dL_law_410 h (fun v8 h => ?_)
  refine j_aload_n O 0 0 dL_law_411 rfl rfl ?_
  refine j_iload_n O 3 3 dL_law_412 rfl rfl ?_
  refine j_iconst O dL_law_413 ?_
  refine j_iadd O dL_law_414 ?_
  refine j_scV O hsc dL_law_415 h (fun v9 h => ?_)
  obtain ⟨e12, h⟩ := h
  refine fin_I O ⟨Nat.zero_le _, Nat.zero_le _⟩ (run_V (As := [vI (v7), vI (v8), vI (v9)]) (st := [vI (r4)]) O (mt_X5_asks (xl x) (xG x) _ _ _ _ _ _ h) e12 cfX5.1 q1875 q1876 q1877 q131 q1878 hy_X5_asks (Nat.le_of_ble_eq_true rfl) (Nat.le_of_ble_eq_true rfl) ⟨Nat.zero_le _, Nat.zero_le _⟩ rfl (Nat.le_of_ble_eq_true rfl) dL_law_416) (fun r10 w11 h => ?_)
  obtain ⟨c13, h⟩ := h
  obtain ⟨c14, h⟩ := h
  refine j_icmp_eq O (tgt := 1403) dL_law_419 (by decide) c13 c14 h (fun h => ?_) (fun h => ?_)
  · exact (J.sub [0, 1, 2, 3] rfl <| wk_L_law_1403 O hm hsc hend _ _ _ _ _ hK18 _ _ _ h)
  · refine j_iconst O dL_law_422 ?_
    exact False.elim h
theorem wk_L_law_424 {x : Cx} {nn : Nat} {sc : Nat → Int} {Z : State → Prop} (O : OK x "DowryBoxesLaw" cL_law 113) (hm : xn x = 4) (hsc : SCR x nn sc) (hend : LEND x Z) (K18 : Int → Nat → Nat → Wd → Prop) (x0 : Nat) (x1 : Nat) (x2 : Nat) (x3 : Int) (hK18 : ∀ (y3 : Int) (bc bs : Nat) (w : Wd), K18 y3 bc bs w → J x Z w bc bs 18 [(0, .ref (adG (xG x) (x0))), (1, .ref (adG (xG x) (x1))), (2, .ref (adG (xG x) (x2))), (3, vI (y3))] []) (bc bs : Nat) (w : Wd) (h : wp_L_law_424 nn sc K18 x0 x1 x2 x3 bc bs w) : J x Z w bc bs 424 [(0, .ref (adG (xG x) (x0))), (1, .ref (adG (xG x) (x1))), (2, .ref (adG (xG x) (x2))), (3, vI (x3))] [] := by
  unfold wp_L_law_424 at h
  refine j_aload_n O 1 1 dL_law_424 rfl rfl ?_
  refine j_aload_n O 0 0 dL_law_425 rfl rfl ?_
  refine j_iload_n O 3 3 dL_law_426 rfl rfl ?_
  refine j_iconst O dL_law_427 ?_
  refine j_iadd O dL_law_428 ?_
  refine j_scV O hsc dL_law_429 h (fun v1 h => ?_)
  refine j_aload_n O 0 0 dL_law_430 rfl rfl ?_
  refine j_iload_n O 3 3 dL_law_431 rfl rfl ?_
  refine j_iconst O dL_law_432 ?_
  refine j_iadd O dL_law_433 ?_
  refine j_scV O hsc dL_law_434 h (fun v2 h => ?_)
  obtain ⟨e5, h⟩ := h
  refine fin_I O ⟨Nat.zero_le _, Nat.zero_le _⟩ (run_V (As := [vI (v1), vI (v2)]) (st := []) O (mt_X0_terms (xl x) (xG x) _ _ _ _ _ h) e5 cfX0.1 q749 q750 q751 q121 q752 hy_X0_terms (Nat.le_of_ble_eq_true rfl) (Nat.le_of_ble_eq_true rfl) ⟨Nat.zero_le _, Nat.zero_le _⟩ rfl (Nat.le_of_ble_eq_true rfl) dL_law_435) (fun r3 w4 h => ?_)
  refine j_aload_n O 2 2 dL_law_438 rfl rfl ?_
  refine j_aload_n O 0 0 dL_law_439 rfl rfl ?_
  refine j_iload_n O 3 3 dL_law_440 rfl rfl ?_
  refine j_iconst O dL_law_441 ?_
  refine j_iadd O dL_law_442 ?_
  refine j_scV O hsc dL_law_443 h (fun v6 h => ?_)
  refine j_aload_n O 0 0 dL_law_444 rfl rfl ?_
  refine j_iload_n O 3 3 dL_law_445 rfl rfl ?_
  refine j_iconst O dL_law_446 ?_
  refine j_iadd O dL_law_447 ?_
  refine j_scV O hsc dL_law_448 h (fun v7 h => ?_)
  obtain ⟨e10, h⟩ := h
  refine fin_I O ⟨Nat.zero_le _, Nat.zero_le _⟩ (run_V (As := [vI (v6), vI (v7)]) (st := [vI (r3)]) O (mt_X5_terms (xl x) (xG x) _ _ _ _ _ h) e10 cfX5.1 q1887 q1888 q1889 q131 q1890 hy_X5_terms (Nat.le_of_ble_eq_true rfl) (Nat.le_of_ble_eq_true rfl) ⟨Nat.zero_le _, Nat.zero_le _⟩ rfl (Nat.le_of_ble_eq_true rfl) dL_law_449) (fun r8 w9 h => ?_)
  obtain ⟨c11, h⟩ := h
  obtain ⟨c12, h⟩ := h
  refine j_icmp_eq O (tgt := 1403) dL_law_452 (by decide) c11 c12 h (fun h => ?_) (fun h => ?_)
  · exact (J.sub [0, 1, 2, 3] rfl <| wk_L_law_1403 O hm hsc hend _ _ _ _ _ hK18 _ _ _ h)
  · refine j_iconst O dL_law_455 ?_
    exact False.elim h
theorem wk_L_law_457 {x : Cx} {nn : Nat} {sc : Nat → Int} {Z : State → Prop} (O : OK x "DowryBoxesLaw" cL_law 113) (hm : xn x = 4) (hsc : SCR x nn sc) (hend : LEND x Z) (K18 : Int → Nat → Nat → Wd → Prop) (x0 : Nat) (x1 : Nat) (x2 : Nat) (x3 : Int) (hK18 : ∀ (y3 : Int) (bc bs : Nat) (w : Wd), K18 y3 bc bs w → J x Z w bc bs 18 [(0, .ref (adG (xG x) (x0))), (1, .ref (adG (xG x) (x1))), (2, .ref (adG (xG x) (x2))), (3, vI (y3))] []) (bc bs : Nat) (w : Wd) (h : wp_L_law_457 nn sc K18 x0 x1 x2 x3 bc bs w) : J x Z w bc bs 457 [(0, .ref (adG (xG x) (x0))), (1, .ref (adG (xG x) (x1))), (2, .ref (adG (xG x) (x2))), (3, vI (x3))] [] := by
  unfold wp_L_law_457 at h
  refine j_aload_n O 1 1 dL_law_457 rfl rfl ?_
  refine j_aload_n O 0 0 dL_law_458 rfl rfl ?_
  refine j_iload_n O 3 3 dL_law_459 rfl rfl ?_
  refine j_iconst O dL_law_460 ?_
  refine j_iadd O dL_law_461 ?_
  refine j_scV O hsc dL_law_462 h (fun v1 h => ?_)
  refine j_aload_n O 0 0 dL_law_463 rfl rfl ?_
  refine j_iload_n O 3 3 dL_law_464 rfl rfl ?_
  refine j_iconst O dL_law_465 ?_
  refine j_iadd O dL_law_466 ?_
  refine j_scV O hsc dL_law_467 h (fun v2 h => ?_)
  refine j_aload_n O 0 0 dL_law_468 rfl rfl ?_
  refine j_iload_n O 3 3 dL_law_469 rfl rfl ?_
  refine j_iconst O dL_law_470 ?_
  refine j_iadd O dL_law_471 ?_
  refine j_scV O hsc dL_law_472 h (fun v3 h => ?_)
  refine j_aload_n O 0 0 dL_law_473 rfl rfl ?_
  refine j_iload_n O 3 3 dL_law_474 rfl rfl ?_
  refine j_iconst O dL_law_475 ?_
  refine j_iadd O dL_law_476 ?_
  refine j_scV O hsc dL_law_477 h (fun v4 h => ?_)
  refine j_aload_n O 0 0 dL_law_478 rfl rfl ?_
  refine j_iload_n O 3 3 dL_law_479 rfl rfl ?_
  refine j_iconst O dL_law_480 ?_
  refine j_iadd O dL_law_481 ?_
  refine j_scV O hsc dL_law_482 h (fun v5 h => ?_)
  obtain ⟨e8, h⟩ := h
  refine fin_I O ⟨Nat.zero_le _, Nat.zero_le _⟩ (run_V (As := [vI (v1), vI (v2), vI (v3), vI (v4), vI (v5)]) (st := []) O (mt_X0_feed (xl x) (xG x) _ _ _ _ _ _ _ _ h) e8 cfX0.1 q753 q754 q755 q121 q756 hy_X0_feed (Nat.le_of_ble_eq_true rfl) (Nat.le_of_ble_eq_true rfl) ⟨Nat.zero_le _, Nat.zero_le _⟩ rfl (Nat.le_of_ble_eq_true rfl) dL_law_483) (fun r6 w7 h => ?_)
  refine j_aload_n O 2 2 dL_law_486 rfl rfl ?_
  refine j_aload_n O 0 0 dL_law_487 rfl rfl ?_
  refine j_iload_n O 3 3 dL_law_488 rfl rfl ?_
  refine j_iconst O dL_law_489 ?_
  refine j_iadd O dL_law_490 ?_
  refine j_scV O hsc dL_law_491 h (fun v9 h => ?_)
  refine j_aload_n O 0 0 dL_law_492 rfl rfl ?_
  refine j_iload_n O 3 3 dL_law_493 rfl rfl ?_
  refine j_iconst O dL_law_494 ?_
  refine j_iadd O dL_law_495 ?_
  refine j_scV O hsc dL_law_496 h (fun v10 h => ?_)
  refine j_aload_n O 0 0 dL_law_497 rfl rfl ?_
  refine j_iload_n O 3 3 dL_law_498 rfl rfl ?_
  refine j_iconst O dL_law_499 ?_
  refine j_iadd O dL_law_500 ?_
  refine j_scV O hsc dL_law_501 h (fun v11 h => ?_)
  refine j_aload_n O 0 0 dL_law_502 rfl rfl ?_
  refine j_iload_n O 3 3 dL_law_503 rfl rfl ?_
  refine j_iconst O dL_law_504 ?_
  refine j_iadd O dL_law_505 ?_
  refine j_scV O hsc dL_law_506 h (fun v12 h => ?_)
  refine j_aload_n O 0 0 dL_law_507 rfl rfl ?_
  refine j_iload_n O 3 3 dL_law_508 rfl rfl ?_
  refine j_iconst O dL_law_509 ?_
  refine j_iadd O dL_law_510 ?_
  refine j_scV O hsc dL_law_511 h (fun v13 h => ?_)
  obtain ⟨e16, h⟩ := h
  refine fin_I O ⟨Nat.zero_le _, Nat.zero_le _⟩ (run_V (As := [vI (v9), vI (v10), vI (v11), vI (v12), vI (v13)]) (st := [vI (r6)]) O (mt_X5_feed (xl x) (xG x) _ _ _ _ _ _ _ _ h) e16 cfX5.1 q1902 q1903 q1904 q131 q1905 hy_X5_feed (Nat.le_of_ble_eq_true rfl) (Nat.le_of_ble_eq_true rfl) ⟨Nat.zero_le _, Nat.zero_le _⟩ rfl (Nat.le_of_ble_eq_true rfl) dL_law_512) (fun r14 w15 h => ?_)
  obtain ⟨c17, h⟩ := h
  obtain ⟨c18, h⟩ := h
  refine j_icmp_eq O (tgt := 1403) dL_law_515 (by decide) c17 c18 h (fun h => ?_) (fun h => ?_)
  · exact (J.sub [0, 1, 2, 3] rfl <| wk_L_law_1403 O hm hsc hend _ _ _ _ _ hK18 _ _ _ h)
  · refine j_iconst O dL_law_518 ?_
    exact False.elim h
theorem wk_L_law_520 {x : Cx} {nn : Nat} {sc : Nat → Int} {Z : State → Prop} (O : OK x "DowryBoxesLaw" cL_law 113) (hm : xn x = 4) (hsc : SCR x nn sc) (hend : LEND x Z) (K18 : Int → Nat → Nat → Wd → Prop) (x0 : Nat) (x1 : Nat) (x2 : Nat) (x3 : Int) (hK18 : ∀ (y3 : Int) (bc bs : Nat) (w : Wd), K18 y3 bc bs w → J x Z w bc bs 18 [(0, .ref (adG (xG x) (x0))), (1, .ref (adG (xG x) (x1))), (2, .ref (adG (xG x) (x2))), (3, vI (y3))] []) (bc bs : Nat) (w : Wd) (h : wp_L_law_520 nn sc K18 x0 x1 x2 x3 bc bs w) : J x Z w bc bs 520 [(0, .ref (adG (xG x) (x0))), (1, .ref (adG (xG x) (x1))), (2, .ref (adG (xG x) (x2))), (3, vI (x3))] [] := by
  unfold wp_L_law_520 at h
  refine j_aload_n O 1 1 dL_law_520 rfl rfl ?_
  refine j_aload_n O 0 0 dL_law_521 rfl rfl ?_
  refine j_iload_n O 3 3 dL_law_522 rfl rfl ?_
  refine j_iconst O dL_law_523 ?_
  refine j_iadd O dL_law_524 ?_
  refine j_scV O hsc dL_law_525 h (fun v1 h => ?_)
  obtain ⟨e4, h⟩ := h
  refine fin_I O ⟨Nat.zero_le _, Nat.zero_le _⟩ (run_V (As := [vI (v1)]) (st := []) O (mt_X0_end (xl x) (xG x) _ _ _ _ h) e4 cfX0.1 q761 q762 q763 q121 q764 hy_X0_end (Nat.le_of_ble_eq_true rfl) (Nat.le_of_ble_eq_true rfl) ⟨Nat.zero_le _, Nat.zero_le _⟩ rfl (Nat.le_of_ble_eq_true rfl) dL_law_526) (fun r2 w3 h => ?_)
  refine j_aload_n O 2 2 dL_law_529 rfl rfl ?_
  refine j_aload_n O 0 0 dL_law_530 rfl rfl ?_
  refine j_iload_n O 3 3 dL_law_531 rfl rfl ?_
  refine j_iconst O dL_law_532 ?_
  refine j_iadd O dL_law_533 ?_
  refine j_scV O hsc dL_law_534 h (fun v5 h => ?_)
  obtain ⟨e8, h⟩ := h
  refine fin_I O ⟨Nat.zero_le _, Nat.zero_le _⟩ (run_V (As := [vI (v5)]) (st := [vI (r2)]) O (mt_X5_end (xl x) (xG x) _ _ _ _ h) e8 cfX5.1 q1910 q1911 q1912 q131 q1913 hy_X5_end (Nat.le_of_ble_eq_true rfl) (Nat.le_of_ble_eq_true rfl) ⟨Nat.zero_le _, Nat.zero_le _⟩ rfl (Nat.le_of_ble_eq_true rfl) dL_law_535) (fun r6 w7 h => ?_)
  obtain ⟨c9, h⟩ := h
  obtain ⟨c10, h⟩ := h
  refine j_icmp_eq O (tgt := 1403) dL_law_538 (by decide) c9 c10 h (fun h => ?_) (fun h => ?_)
  · exact (J.sub [0, 1, 2, 3] rfl <| wk_L_law_1403 O hm hsc hend _ _ _ _ _ hK18 _ _ _ h)
  · refine j_iconst O dL_law_541 ?_
    exact False.elim h
theorem wk_L_law_543 {x : Cx} {nn : Nat} {sc : Nat → Int} {Z : State → Prop} (O : OK x "DowryBoxesLaw" cL_law 113) (hm : xn x = 4) (hsc : SCR x nn sc) (hend : LEND x Z) (K18 : Int → Nat → Nat → Wd → Prop) (x0 : Nat) (x1 : Nat) (x2 : Nat) (x3 : Int) (hK18 : ∀ (y3 : Int) (bc bs : Nat) (w : Wd), K18 y3 bc bs w → J x Z w bc bs 18 [(0, .ref (adG (xG x) (x0))), (1, .ref (adG (xG x) (x1))), (2, .ref (adG (xG x) (x2))), (3, vI (y3))] []) (bc bs : Nat) (w : Wd) (h : wp_L_law_543 nn sc K18 x0 x1 x2 x3 bc bs w) : J x Z w bc bs 543 [(0, .ref (adG (xG x) (x0))), (1, .ref (adG (xG x) (x1))), (2, .ref (adG (xG x) (x2))), (3, vI (x3))] [] := by
  unfold wp_L_law_543 at h
  refine j_aload_n O 1 1 dL_law_543 rfl rfl ?_
  obtain ⟨e3, h⟩ := h
  refine fin_I O ⟨Nat.zero_le _, Nat.zero_le _⟩ (run_V (As := []) (st := []) O (mt_X0_row (xl x) (xG x) _ _ _ h) e3 cfX0.1 q765 q766 q767 q121 q768 hy_X0_row (Nat.le_of_ble_eq_true rfl) (Nat.le_of_ble_eq_true rfl) ⟨Nat.zero_le _, Nat.zero_le _⟩ rfl (Nat.le_of_ble_eq_true rfl) dL_law_544) (fun r1 w2 h => ?_)
  refine j_aload_n O 2 2 dL_law_547 rfl rfl ?_
  obtain ⟨e6, h⟩ := h
  refine fin_I O ⟨Nat.zero_le _, Nat.zero_le _⟩ (run_V (As := []) (st := [vI (r1)]) O (mt_X5_row (xl x) (xG x) _ _ _ h) e6 cfX5.1 q1894 q1895 q1896 q131 q1897 hy_X5_row (Nat.le_of_ble_eq_true rfl) (Nat.le_of_ble_eq_true rfl) ⟨Nat.zero_le _, Nat.zero_le _⟩ rfl (Nat.le_of_ble_eq_true rfl) dL_law_548) (fun r4 w5 h => ?_)
  obtain ⟨c7, h⟩ := h
  obtain ⟨c8, h⟩ := h
  refine j_icmp_eq O (tgt := 1403) dL_law_551 (by decide) c7 c8 h (fun h => ?_) (fun h => ?_)
  · exact (J.sub [0, 1, 2, 3] rfl <| wk_L_law_1403 O hm hsc hend _ _ _ _ _ hK18 _ _ _ h)
  · refine j_iconst O dL_law_554 ?_
    exact False.elim h
theorem wk_L_law_556 {x : Cx} {nn : Nat} {sc : Nat → Int} {Z : State → Prop} (O : OK x "DowryBoxesLaw" cL_law 113) (hm : xn x = 4) (hsc : SCR x nn sc) (hend : LEND x Z) (K18 : Int → Nat → Nat → Wd → Prop) (x0 : Nat) (x1 : Nat) (x2 : Nat) (x3 : Int) (hK18 : ∀ (y3 : Int) (bc bs : Nat) (w : Wd), K18 y3 bc bs w → J x Z w bc bs 18 [(0, .ref (adG (xG x) (x0))), (1, .ref (adG (xG x) (x1))), (2, .ref (adG (xG x) (x2))), (3, vI (y3))] []) (bc bs : Nat) (w : Wd) (h : wp_L_law_556 nn sc K18 x0 x1 x2 x3 bc bs w) : J x Z w bc bs 556 [(0, .ref (adG (xG x) (x0))), (1, .ref (adG (xG x) (x1))), (2, .ref (adG (xG x) (x2))), (3, vI (x3))] [] := by
  unfold wp_L_law_556 at h
  refine j_aload_n O 1 1 dL_law_556 rfl rfl ?_
  obtain ⟨e3, h⟩ := h
  refine fin_I O ⟨Nat.zero_le _, Nat.zero_le _⟩ (run_V (As := []) (st := []) O (mt_X0_rust (xl x) (xG x) _ _ _ h) e3 cfX0.1 q769 q770 q771 q121 q772 hy_X0_rust (Nat.le_of_ble_eq_true rfl) (Nat.le_of_ble_eq_true rfl) ⟨Nat.zero_le _, Nat.zero_le _⟩ rfl (Nat.le_of_ble_eq_true rfl) dL_law_557) (fun r1 w2 h => ?_)
  refine j_aload_n O 2 2 dL_law_560 rfl rfl ?_
  obtain ⟨e6, h⟩ := h
  refine fin_I O ⟨Nat.zero_le _, Nat.zero_le _⟩ (run_V (As := []) (st := [vI (r1)]) O (mt_X5_rust (xl x) (xG x) _ _ _ h) e6 cfX5.1 q1898 q1899 q1900 q131 q1901 hy_X5_rust (Nat.le_of_ble_eq_true rfl) (Nat.le_of_ble_eq_true rfl) ⟨Nat.zero_le _, Nat.zero_le _⟩ rfl (Nat.le_of_ble_eq_true rfl) dL_law_561) (fun r4 w5 h => ?_)
  obtain ⟨c7, h⟩ := h
  obtain ⟨c8, h⟩ := h
  refine j_icmp_eq O (tgt := 1403) dL_law_564 (by decide) c7 c8 h (fun h => ?_) (fun h => ?_)
  · exact (J.sub [0, 1, 2, 3] rfl <| wk_L_law_1403 O hm hsc hend _ _ _ _ _ hK18 _ _ _ h)
  · refine j_iconst O dL_law_567 ?_
    exact False.elim h
theorem wk_L_law_569 {x : Cx} {nn : Nat} {sc : Nat → Int} {Z : State → Prop} (O : OK x "DowryBoxesLaw" cL_law 113) (hm : xn x = 4) (hsc : SCR x nn sc) (hend : LEND x Z) (K18 : Int → Nat → Nat → Wd → Prop) (x0 : Nat) (x1 : Nat) (x2 : Nat) (x3 : Int) (hK18 : ∀ (y3 : Int) (bc bs : Nat) (w : Wd), K18 y3 bc bs w → J x Z w bc bs 18 [(0, .ref (adG (xG x) (x0))), (1, .ref (adG (xG x) (x1))), (2, .ref (adG (xG x) (x2))), (3, vI (y3))] []) (bc bs : Nat) (w : Wd) (h : wp_L_law_569 nn sc K18 x0 x1 x2 x3 bc bs w) : J x Z w bc bs 569 [(0, .ref (adG (xG x) (x0))), (1, .ref (adG (xG x) (x1))), (2, .ref (adG (xG x) (x2))), (3, vI (x3))] [] := by
  unfold wp_L_law_569 at h
  refine j_aload_n O 1 1 dL_law_569 rfl rfl ?_
  obtain ⟨e5, h⟩ := h
  obtain ⟨mc3, ms4, hb6, h⟩ := h
  refine fin_I O hb6 (run_V (As := []) (st := []) O (mt_X0_law (xl x) (xG x) _ _ _ _ _ h) e5 cfX0.1 q773 q774 q775 q121 q776 hy_X0_law (Nat.le_of_ble_eq_true rfl) (Nat.le_of_ble_eq_true rfl) hb6 rfl (Nat.le_of_ble_eq_true rfl) dL_law_570) (fun r1 w2 h => ?_)
  refine j_aload_n O 2 2 dL_law_573 rfl rfl ?_
  obtain ⟨e9, h⟩ := h
  refine fin_I O ⟨Nat.zero_le _, Nat.zero_le _⟩ (run_V (As := []) (st := [vI (r1)]) O (mt_X5_law (xl x) (xG x) _ _ _ h) e9 cfX5.1 q1918 q1919 q1920 q131 q1921 hy_X5_law (Nat.le_of_ble_eq_true rfl) (Nat.le_of_ble_eq_true rfl) ⟨Nat.zero_le _, Nat.zero_le _⟩ rfl (Nat.le_of_ble_eq_true rfl) dL_law_574) (fun r7 w8 h => ?_)
  obtain ⟨c10, h⟩ := h
  obtain ⟨c11, h⟩ := h
  refine j_icmp_eq O (tgt := 1403) dL_law_577 (by decide) c10 c11 h (fun h => ?_) (fun h => ?_)
  · exact (J.sub [0, 1, 2, 3] rfl <| wk_L_law_1403 O hm hsc hend _ _ _ _ _ hK18 _ _ _ h)
  · refine j_iconst O dL_law_580 ?_
    exact False.elim h
theorem wk_L_law_582 {x : Cx} {nn : Nat} {sc : Nat → Int} {Z : State → Prop} (O : OK x "DowryBoxesLaw" cL_law 113) (hm : xn x = 4) (hsc : SCR x nn sc) (hend : LEND x Z) (K18 : Int → Nat → Nat → Wd → Prop) (x0 : Nat) (x1 : Nat) (x2 : Nat) (x3 : Int) (hK18 : ∀ (y3 : Int) (bc bs : Nat) (w : Wd), K18 y3 bc bs w → J x Z w bc bs 18 [(0, .ref (adG (xG x) (x0))), (1, .ref (adG (xG x) (x1))), (2, .ref (adG (xG x) (x2))), (3, vI (y3))] []) (bc bs : Nat) (w : Wd) (h : wp_L_law_582 nn sc K18 x0 x1 x2 x3 bc bs w) : J x Z w bc bs 582 [(0, .ref (adG (xG x) (x0))), (1, .ref (adG (xG x) (x1))), (2, .ref (adG (xG x) (x2))), (3, vI (x3))] [] := by
  unfold wp_L_law_582 at h
  refine j_aload_n O 1 1 dL_law_582 rfl rfl ?_
  obtain ⟨e5, h⟩ := h
  obtain ⟨mc3, ms4, hb6, h⟩ := h
  refine fin_I O hb6 (run_V (As := []) (st := []) O (mt_X0_orders (xl x) (xG x) _ _ _ _ _ h) e5 cfX0.1 q1463 q1464 q1465 q121 q1466 hy_X0_orders (Nat.le_of_ble_eq_true rfl) (Nat.le_of_ble_eq_true rfl) hb6 rfl (Nat.le_of_ble_eq_true rfl) dL_law_583) (fun r1 w2 h => ?_)
  refine j_aload_n O 2 2 dL_law_586 rfl rfl ?_
  obtain ⟨e9, h⟩ := h
  refine fin_I O ⟨Nat.zero_le _, Nat.zero_le _⟩ (run_V (As := []) (st := [vI (r1)]) O (mt_X5_orders (xl x) (xG x) _ _ _ h) e9 cfX5.1 q2209 q2210 q2211 q131 q2212 hy_X5_orders (Nat.le_of_ble_eq_true rfl) (Nat.le_of_ble_eq_true rfl) ⟨Nat.zero_le _, Nat.zero_le _⟩ rfl (Nat.le_of_ble_eq_true rfl) dL_law_587) (fun r7 w8 h => ?_)
  obtain ⟨c10, h⟩ := h
  obtain ⟨c11, h⟩ := h
  refine j_icmp_eq O (tgt := 1403) dL_law_590 (by decide) c10 c11 h (fun h => ?_) (fun h => ?_)
  · exact (J.sub [0, 1, 2, 3] rfl <| wk_L_law_1403 O hm hsc hend _ _ _ _ _ hK18 _ _ _ h)
  · refine j_iconst O dL_law_593 ?_
    exact False.elim h
theorem wk_L_law_595 {x : Cx} {nn : Nat} {sc : Nat → Int} {Z : State → Prop} (O : OK x "DowryBoxesLaw" cL_law 113) (hm : xn x = 4) (hsc : SCR x nn sc) (hend : LEND x Z) (K18 : Int → Nat → Nat → Wd → Prop) (x0 : Nat) (x1 : Nat) (x2 : Nat) (x3 : Int) (hK18 : ∀ (y3 : Int) (bc bs : Nat) (w : Wd), K18 y3 bc bs w → J x Z w bc bs 18 [(0, .ref (adG (xG x) (x0))), (1, .ref (adG (xG x) (x1))), (2, .ref (adG (xG x) (x2))), (3, vI (y3))] []) (bc bs : Nat) (w : Wd) (h : wp_L_law_595 nn sc K18 x0 x1 x2 x3 bc bs w) : J x Z w bc bs 595 [(0, .ref (adG (xG x) (x0))), (1, .ref (adG (xG x) (x1))), (2, .ref (adG (xG x) (x2))), (3, vI (x3))] [] := by
  unfold wp_L_law_595 at h
  refine j_aload_n O 1 1 dL_law_595 rfl rfl ?_
  obtain ⟨e3, h⟩ := h
  refine fin_I O ⟨Nat.zero_le _, Nat.zero_le _⟩ (run_V (As := []) (st := []) O (mt_X0_fault (xl x) (xG x) _ _ _ h) e3 cfX0.1 q1257 q1258 q1259 q121 q1260 hy_X0_fault (Nat.le_of_ble_eq_true rfl) (Nat.le_of_ble_eq_true rfl) ⟨Nat.zero_le _, Nat.zero_le _⟩ rfl (Nat.le_of_ble_eq_true rfl) dL_law_596) (fun r1 w2 h => ?_)
  refine j_aload_n O 2 2 dL_law_599 rfl rfl ?_
  obtain ⟨e6, h⟩ := h
  refine fin_I O ⟨Nat.zero_le _, Nat.zero_le _⟩ (run_V (As := []) (st := [vI (r1)]) O (mt_X5_fault (xl x) (xG x) _ _ _ h) e6 cfX5.1 q1914 q1915 q1916 q131 q1917 hy_X5_fault (Nat.le_of_ble_eq_true rfl) (Nat.le_of_ble_eq_true rfl) ⟨Nat.zero_le _, Nat.zero_le _⟩ rfl (Nat.le_of_ble_eq_true rfl) dL_law_600) (fun r4 w5 h => ?_)
  obtain ⟨c7, h⟩ := h
  obtain ⟨c8, h⟩ := h
  refine j_icmp_eq O (tgt := 1403) dL_law_603 (by decide) c7 c8 h (fun h => ?_) (fun h => ?_)
  · exact (J.sub [0, 1, 2, 3] rfl <| wk_L_law_1403 O hm hsc hend _ _ _ _ _ hK18 _ _ _ h)
  · refine j_iconst O dL_law_606 ?_
    exact False.elim h
theorem wk_L_law_608 {x : Cx} {nn : Nat} {sc : Nat → Int} {Z : State → Prop} (O : OK x "DowryBoxesLaw" cL_law 113) (hm : xn x = 4) (hsc : SCR x nn sc) (hend : LEND x Z) (K18 : Int → Nat → Nat → Wd → Prop) (x0 : Nat) (x1 : Nat) (x2 : Nat) (x3 : Int) (hK18 : ∀ (y3 : Int) (bc bs : Nat) (w : Wd), K18 y3 bc bs w → J x Z w bc bs 18 [(0, .ref (adG (xG x) (x0))), (1, .ref (adG (xG x) (x1))), (2, .ref (adG (xG x) (x2))), (3, vI (y3))] []) (bc bs : Nat) (w : Wd) (h : wp_L_law_608 nn sc K18 x0 x1 x2 x3 bc bs w) : J x Z w bc bs 608 [(0, .ref (adG (xG x) (x0))), (1, .ref (adG (xG x) (x1))), (2, .ref (adG (xG x) (x2))), (3, vI (x3))] [] := by
  unfold wp_L_law_608 at h
  refine j_aload_n O 1 1 dL_law_608 rfl rfl ?_
  obtain ⟨e3, h⟩ := h
  refine fin_I O ⟨Nat.zero_le _, Nat.zero_le _⟩ (run_V (As := []) (st := []) O (mt_X0_stopped (xl x) (xG x) _ _ _ h) e3 cfX0.1 q1261 q1262 q1263 q121 q1264 hy_X0_stopped (Nat.le_of_ble_eq_true rfl) (Nat.le_of_ble_eq_true rfl) ⟨Nat.zero_le _, Nat.zero_le _⟩ rfl (Nat.le_of_ble_eq_true rfl) dL_law_609) (fun r1 w2 h => ?_)
  refine j_aload_n O 2 2 dL_law_612 rfl rfl ?_
  obtain ⟨e6, h⟩ := h
  refine fin_I O ⟨Nat.zero_le _, Nat.zero_le _⟩ (run_V (As := []) (st := [vI (r1)]) O (mt_X5_stopped (xl x) (xG x) _ _ _ h) e6 cfX5.1 q2246 q2247 q2248 q131 q2249 hy_X5_stopped (Nat.le_of_ble_eq_true rfl) (Nat.le_of_ble_eq_true rfl) ⟨Nat.zero_le _, Nat.zero_le _⟩ rfl (Nat.le_of_ble_eq_true rfl) dL_law_613) (fun r4 w5 h => ?_)
  obtain ⟨c7, h⟩ := h
  obtain ⟨c8, h⟩ := h
  refine j_icmp_eq O (tgt := 1403) dL_law_616 (by decide) c7 c8 h (fun h => ?_) (fun h => ?_)
  · exact (J.sub [0, 1, 2, 3] rfl <| wk_L_law_1403 O hm hsc hend _ _ _ _ _ hK18 _ _ _ h)
  · refine j_iconst O dL_law_619 ?_
    exact False.elim h
theorem wk_L_law_621 {x : Cx} {nn : Nat} {sc : Nat → Int} {Z : State → Prop} (O : OK x "DowryBoxesLaw" cL_law 113) (hm : xn x = 4) (hsc : SCR x nn sc) (hend : LEND x Z) (K18 : Int → Nat → Nat → Wd → Prop) (x0 : Nat) (x1 : Nat) (x2 : Nat) (x3 : Int) (hK18 : ∀ (y3 : Int) (bc bs : Nat) (w : Wd), K18 y3 bc bs w → J x Z w bc bs 18 [(0, .ref (adG (xG x) (x0))), (1, .ref (adG (xG x) (x1))), (2, .ref (adG (xG x) (x2))), (3, vI (y3))] []) (bc bs : Nat) (w : Wd) (h : wp_L_law_621 nn sc K18 x0 x1 x2 x3 bc bs w) : J x Z w bc bs 621 [(0, .ref (adG (xG x) (x0))), (1, .ref (adG (xG x) (x1))), (2, .ref (adG (xG x) (x2))), (3, vI (x3))] [] := by
  unfold wp_L_law_621 at h
  refine j_aload_n O 1 1 dL_law_621 rfl rfl ?_
  refine j_aload_n O 0 0 dL_law_622 rfl rfl ?_
  refine j_iload_n O 3 3 dL_law_623 rfl rfl ?_
  refine j_iconst O dL_law_624 ?_
  refine j_iadd O dL_law_625 ?_
  refine j_scV O hsc dL_law_626 h (fun v1 h => ?_)
  obtain ⟨e4, h⟩ := h
  refine fin_I O ⟨Nat.zero_le _, Nat.zero_le _⟩ (run_V (As := [vI (v1)]) (st := []) O (mt_X0_force (xl x) (xG x) _ _ _ _ h) e4 cfX0.1 q1265 q1266 q1267 q121 q1268 hy_X0_force (Nat.le_of_ble_eq_true rfl) (Nat.le_of_ble_eq_true rfl) ⟨Nat.zero_le _, Nat.zero_le _⟩ rfl (Nat.le_of_ble_eq_true rfl) dL_law_627) (fun r2 w3 h => ?_)
  refine j_aload_n O 2 2 dL_law_630 rfl rfl ?_
  refine j_aload_n O 0 0 dL_law_631 rfl rfl ?_
  refine j_iload_n O 3 3 dL_law_632 rfl rfl ?_
  refine j_iconst O dL_law_633 ?_
  refine j_iadd O dL_law_634 ?_
  refine j_scV O hsc dL_law_635 h (fun v5 h => ?_)
  obtain ⟨e8, h⟩ := h
  refine fin_I O ⟨Nat.zero_le _, Nat.zero_le _⟩ (run_V (As := [vI (v5)]) (st := [vI (r2)]) O (mt_X5_force (xl x) (xG x) _ _ _ _ h) e8 cfX5.1 q2036 q2037 q2038 q131 q2039 hy_X5_force (Nat.le_of_ble_eq_true rfl) (Nat.le_of_ble_eq_true rfl) ⟨Nat.zero_le _, Nat.zero_le _⟩ rfl (Nat.le_of_ble_eq_true rfl) dL_law_636) (fun r6 w7 h => ?_)
  obtain ⟨c9, h⟩ := h
  obtain ⟨c10, h⟩ := h
  refine j_icmp_eq O (tgt := 1403) dL_law_639 (by decide) c9 c10 h (fun h => ?_) (fun h => ?_)
  · exact (J.sub [0, 1, 2, 3] rfl <| wk_L_law_1403 O hm hsc hend _ _ _ _ _ hK18 _ _ _ h)
  · refine j_iconst O dL_law_642 ?_
    exact False.elim h
theorem wk_L_law_644 {x : Cx} {nn : Nat} {sc : Nat → Int} {Z : State → Prop} (O : OK x "DowryBoxesLaw" cL_law 113) (hm : xn x = 4) (hsc : SCR x nn sc) (hend : LEND x Z) (K18 : Int → Nat → Nat → Wd → Prop) (x0 : Nat) (x1 : Nat) (x2 : Nat) (x3 : Int) (hK18 : ∀ (y3 : Int) (bc bs : Nat) (w : Wd), K18 y3 bc bs w → J x Z w bc bs 18 [(0, .ref (adG (xG x) (x0))), (1, .ref (adG (xG x) (x1))), (2, .ref (adG (xG x) (x2))), (3, vI (y3))] []) (bc bs : Nat) (w : Wd) (h : wp_L_law_644 nn sc K18 x0 x1 x2 x3 bc bs w) : J x Z w bc bs 644 [(0, .ref (adG (xG x) (x0))), (1, .ref (adG (xG x) (x1))), (2, .ref (adG (xG x) (x2))), (3, vI (x3))] [] := by
  unfold wp_L_law_644 at h
  refine j_aload_n O 1 1 dL_law_644 rfl rfl ?_
  refine j_aload_n O 0 0 dL_law_645 rfl rfl ?_
  refine j_iload_n O 3 3 dL_law_646 rfl rfl ?_
  refine j_iconst O dL_law_647 ?_
  refine j_iadd O dL_law_648 ?_
  refine j_scV O hsc dL_law_649 h (fun v1 h => ?_)
  refine j_aload_n O 0 0 dL_law_650 rfl rfl ?_
  refine j_iload_n O 3 3 dL_law_651 rfl rfl ?_
  refine j_iconst O dL_law_652 ?_
  refine j_iadd O dL_law_653 ?_
  refine j_scV O hsc dL_law_654 h (fun v2 h => ?_)
  refine j_aload_n O 0 0 dL_law_655 rfl rfl ?_
  refine j_iload_n O 3 3 dL_law_656 rfl rfl ?_
  refine j_iconst O dL_law_657 ?_
  refine j_iadd O dL_law_658 ?_
  refine j_scV O hsc dL_law_659 h (fun v3 h => ?_)
  obtain ⟨e6, h⟩ := h
  refine fin_I O ⟨Nat.zero_le _, Nat.zero_le _⟩ (run_V (As := [vI (v1), vI (v2), vI (v3)]) (st := []) O (mt_X0_pull (xl x) (xG x) _ _ _ _ _ _ h) e6 cfX0.1 q1273 q1274 q1275 q121 q1276 hy_X0_pull (Nat.le_of_ble_eq_true rfl) (Nat.le_of_ble_eq_true rfl) ⟨Nat.zero_le _, Nat.zero_le _⟩ rfl (Nat.le_of_ble_eq_true rfl) dL_law_660) (fun r4 w5 h => ?_)
  refine j_aload_n O 2 2 dL_law_663 rfl rfl ?_
  refine j_aload_n O 0 0 dL_law_664 rfl rfl ?_
  refine j_iload_n O 3 3 dL_law_665 rfl rfl ?_
  refine j_iconst O dL_law_666 ?_
  refine j_iadd O dL_law_667 ?_
  refine j_scV O hsc dL_law_668 h (fun v7 h => ?_)
  refine j_aload_n O 0 0 dL_law_669 rfl rfl ?_
  refine j_iload_n O 3 3 dL_law_670 rfl rfl ?_
  refine j_iconst O dL_law_671 ?_
  refine j_iadd O dL_law_672 ?_
  refine j_scV O hsc dL_law_673 h (fun v8 h => ?_)
  refine j_aload_n O 0 0 dL_law_674 rfl rfl ?_
  refine j_iload_n O 3 3 dL_law_675 rfl rfl ?_
  refine j_iconst O dL_law_676 ?_
  refine j_iadd O dL_law_677 ?_
  refine j_scV O hsc dL_law_678 h (fun v9 h => ?_)
  obtain ⟨e12, h⟩ := h
  refine fin_I O ⟨Nat.zero_le _, Nat.zero_le _⟩ (run_V (As := [vI (v7), vI (v8), vI (v9)]) (st := [vI (r4)]) O (mt_X5_pull (xl x) (xG x) _ _ _ _ _ _ h) e12 cfX5.1 q2044 q2045 q2046 q131 q2047 hy_X5_pull (Nat.le_of_ble_eq_true rfl) (Nat.le_of_ble_eq_true rfl) ⟨Nat.zero_le _, Nat.zero_le _⟩ rfl (Nat.le_of_ble_eq_true rfl) dL_law_679) (fun r10 w11 h => ?_)
  obtain ⟨c13, h⟩ := h
  obtain ⟨c14, h⟩ := h
  refine j_icmp_eq O (tgt := 1403) dL_law_682 (by decide) c13 c14 h (fun h => ?_) (fun h => ?_)
  · exact (J.sub [0, 1, 2, 3] rfl <| wk_L_law_1403 O hm hsc hend _ _ _ _ _ hK18 _ _ _ h)
  · refine j_iconst O dL_law_685 ?_
    exact False.elim h
theorem wk_L_law_687 {x : Cx} {nn : Nat} {sc : Nat → Int} {Z : State → Prop} (O : OK x "DowryBoxesLaw" cL_law 113) (hm : xn x = 4) (hsc : SCR x nn sc) (hend : LEND x Z) (K18 : Int → Nat → Nat → Wd → Prop) (x0 : Nat) (x1 : Nat) (x2 : Nat) (x3 : Int) (hK18 : ∀ (y3 : Int) (bc bs : Nat) (w : Wd), K18 y3 bc bs w → J x Z w bc bs 18 [(0, .ref (adG (xG x) (x0))), (1, .ref (adG (xG x) (x1))), (2, .ref (adG (xG x) (x2))), (3, vI (y3))] []) (bc bs : Nat) (w : Wd) (h : wp_L_law_687 nn sc K18 x0 x1 x2 x3 bc bs w) : J x Z w bc bs 687 [(0, .ref (adG (xG x) (x0))), (1, .ref (adG (xG x) (x1))), (2, .ref (adG (xG x) (x2))), (3, vI (x3))] [] := by
  unfold wp_L_law_687 at h
  refine j_aload_n O 1 1 dL_law_687 rfl rfl ?_
  refine j_aload_n O 0 0 dL_law_688 rfl rfl ?_
  refine j_iload_n O 3 3 dL_law_689 rfl rfl ?_
  refine j_iconst O dL_law_690 ?_
  refine j_iadd O dL_law_691 ?_
  refine j_scV O hsc dL_law_692 h (fun v1 h => ?_)
  refine j_aload_n O 0 0 dL_law_693 rfl rfl ?_
  refine j_iload_n O 3 3 dL_law_694 rfl rfl ?_
  refine j_iconst O dL_law_695 ?_
  refine j_iadd O dL_law_696 ?_
  refine j_scV O hsc dL_law_697 h (fun v2 h => ?_)
  obtain ⟨e5, h⟩ := h
  refine fin_I O ⟨Nat.zero_le _, Nat.zero_le _⟩ (run_V (As := [vI (v1), vI (v2)]) (st := []) O (mt_X0_snap (xl x) (xG x) _ _ _ _ _ h) e5 cfX0.1 q1290 q1291 q1292 q121 q1293 hy_X0_snap (Nat.le_of_ble_eq_true rfl) (Nat.le_of_ble_eq_true rfl) ⟨Nat.zero_le _, Nat.zero_le _⟩ rfl (Nat.le_of_ble_eq_true rfl) dL_law_698) (fun r3 w4 h => ?_)
  refine j_aload_n O 2 2 dL_law_701 rfl rfl ?_
  refine j_aload_n O 0 0 dL_law_702 rfl rfl ?_
  refine j_iload_n O 3 3 dL_law_703 rfl rfl ?_
  refine j_iconst O dL_law_704 ?_
  refine j_iadd O dL_law_705 ?_
  refine j_scV O hsc dL_law_706 h (fun v6 h => ?_)
  refine j_aload_n O 0 0 dL_law_707 rfl rfl ?_
  refine j_iload_n O 3 3 dL_law_708 rfl rfl ?_
  refine j_iconst O dL_law_709 ?_
  refine j_iadd O dL_law_710 ?_
  refine j_scV O hsc dL_law_711 h (fun v7 h => ?_)
  obtain ⟨e10, h⟩ := h
  refine fin_I O ⟨Nat.zero_le _, Nat.zero_le _⟩ (run_V (As := [vI (v6), vI (v7)]) (st := [vI (r3)]) O (mt_X5_snap (xl x) (xG x) _ _ _ _ _ h) e10 cfX5.1 q2067 q2068 q2069 q131 q2070 hy_X5_snap (Nat.le_of_ble_eq_true rfl) (Nat.le_of_ble_eq_true rfl) ⟨Nat.zero_le _, Nat.zero_le _⟩ rfl (Nat.le_of_ble_eq_true rfl) dL_law_712) (fun r8 w9 h => ?_)
  obtain ⟨c11, h⟩ := h
  obtain ⟨c12, h⟩ := h
  refine j_icmp_eq O (tgt := 1403) dL_law_715 (by decide) c11 c12 h (fun h => ?_) (fun h => ?_)
  · exact (J.sub [0, 1, 2, 3] rfl <| wk_L_law_1403 O hm hsc hend _ _ _ _ _ hK18 _ _ _ h)
  · refine j_iconst O dL_law_718 ?_
    exact False.elim h
theorem wk_L_law_720 {x : Cx} {nn : Nat} {sc : Nat → Int} {Z : State → Prop} (O : OK x "DowryBoxesLaw" cL_law 113) (hm : xn x = 4) (hsc : SCR x nn sc) (hend : LEND x Z) (K18 : Int → Nat → Nat → Wd → Prop) (x0 : Nat) (x1 : Nat) (x2 : Nat) (x3 : Int) (hK18 : ∀ (y3 : Int) (bc bs : Nat) (w : Wd), K18 y3 bc bs w → J x Z w bc bs 18 [(0, .ref (adG (xG x) (x0))), (1, .ref (adG (xG x) (x1))), (2, .ref (adG (xG x) (x2))), (3, vI (y3))] []) (bc bs : Nat) (w : Wd) (h : wp_L_law_720 nn sc K18 x0 x1 x2 x3 bc bs w) : J x Z w bc bs 720 [(0, .ref (adG (xG x) (x0))), (1, .ref (adG (xG x) (x1))), (2, .ref (adG (xG x) (x2))), (3, vI (x3))] [] := by
  unfold wp_L_law_720 at h
  refine j_aload_n O 1 1 dL_law_720 rfl rfl ?_
  refine j_aload_n O 0 0 dL_law_721 rfl rfl ?_
  refine j_iload_n O 3 3 dL_law_722 rfl rfl ?_
  refine j_iconst O dL_law_723 ?_
  refine j_iadd O dL_law_724 ?_
  refine j_scV O hsc dL_law_725 h (fun v1 h => ?_)
  refine j_aload_n O 0 0 dL_law_726 rfl rfl ?_
  refine j_iload_n O 3 3 dL_law_727 rfl rfl ?_
  refine j_iconst O dL_law_728 ?_
  refine j_iadd O dL_law_729 ?_
  refine j_scV O hsc dL_law_730 h (fun v2 h => ?_)
  obtain ⟨e5, h⟩ := h
  refine fin_I O ⟨Nat.zero_le _, Nat.zero_le _⟩ (run_V (As := [vI (v1), vI (v2)]) (st := []) O (mt_X0_wed (xl x) (xG x) _ _ _ _ _ h) e5 cfX0.1 q1298 q1299 q1300 q121 q1301 hy_X0_wed (Nat.le_of_ble_eq_true rfl) (Nat.le_of_ble_eq_true rfl) ⟨Nat.zero_le _, Nat.zero_le _⟩ rfl (Nat.le_of_ble_eq_true rfl) dL_law_731) (fun r3 w4 h => ?_)
  refine j_aload_n O 2 2 dL_law_734 rfl rfl ?_
  refine j_aload_n O 0 0 dL_law_735 rfl rfl ?_
  refine j_iload_n O 3 3 dL_law_736 rfl rfl ?_
  refine j_iconst O dL_law_737 ?_
  refine j_iadd O dL_law_738 ?_
  refine j_scV O hsc dL_law_739 h (fun v6 h => ?_)
  refine j_aload_n O 0 0 dL_law_740 rfl rfl ?_
  refine j_iload_n O 3 3 dL_law_741 rfl rfl ?_
  refine j_iconst O dL_law_742 ?_
  refine j_iadd O dL_law_743 ?_
  refine j_scV O hsc dL_law_744 h (fun v7 h => ?_)
  obtain ⟨e10, h⟩ := h
  refine fin_I O ⟨Nat.zero_le _, Nat.zero_le _⟩ (run_V (As := [vI (v6), vI (v7)]) (st := [vI (r3)]) O (mt_X5_wed (xl x) (xG x) _ _ _ _ _ h) e10 cfX5.1 q2075 q2076 q2077 q131 q2078 hy_X5_wed (Nat.le_of_ble_eq_true rfl) (Nat.le_of_ble_eq_true rfl) ⟨Nat.zero_le _, Nat.zero_le _⟩ rfl (Nat.le_of_ble_eq_true rfl) dL_law_745) (fun r8 w9 h => ?_)
  obtain ⟨c11, h⟩ := h
  obtain ⟨c12, h⟩ := h
  refine j_icmp_eq O (tgt := 1403) dL_law_748 (by decide) c11 c12 h (fun h => ?_) (fun h => ?_)
  · exact (J.sub [0, 1, 2, 3] rfl <| wk_L_law_1403 O hm hsc hend _ _ _ _ _ hK18 _ _ _ h)
  · refine j_iconst O dL_law_751 ?_
    exact False.elim h
theorem wk_L_law_753 {x : Cx} {nn : Nat} {sc : Nat → Int} {Z : State → Prop} (O : OK x "DowryBoxesLaw" cL_law 113) (hm : xn x = 4) (hsc : SCR x nn sc) (hend : LEND x Z) (K18 : Int → Nat → Nat → Wd → Prop) (x0 : Nat) (x1 : Nat) (x2 : Nat) (x3 : Int) (hK18 : ∀ (y3 : Int) (bc bs : Nat) (w : Wd), K18 y3 bc bs w → J x Z w bc bs 18 [(0, .ref (adG (xG x) (x0))), (1, .ref (adG (xG x) (x1))), (2, .ref (adG (xG x) (x2))), (3, vI (y3))] []) (bc bs : Nat) (w : Wd) (h : wp_L_law_753 nn sc K18 x0 x1 x2 x3 bc bs w) : J x Z w bc bs 753 [(0, .ref (adG (xG x) (x0))), (1, .ref (adG (xG x) (x1))), (2, .ref (adG (xG x) (x2))), (3, vI (x3))] [] := by
  unfold wp_L_law_753 at h
  refine j_aload_n O 1 1 dL_law_753 rfl rfl ?_
  obtain ⟨e3, h⟩ := h
  refine fin_I O ⟨Nat.zero_le _, Nat.zero_le _⟩ (run_V (As := []) (st := []) O (mt_X0_pass (xl x) (xG x) _ _ _ h) e3 cfX0.1 q1314 q1315 q1316 q121 q1317 hy_X0_pass (Nat.le_of_ble_eq_true rfl) (Nat.le_of_ble_eq_true rfl) ⟨Nat.zero_le _, Nat.zero_le _⟩ rfl (Nat.le_of_ble_eq_true rfl) dL_law_754) (fun r1 w2 h => ?_)
  refine j_aload_n O 2 2 dL_law_757 rfl rfl ?_
  obtain ⟨e6, h⟩ := h
  refine fin_I O ⟨Nat.zero_le _, Nat.zero_le _⟩ (run_V (As := []) (st := [vI (r1)]) O (mt_X5_pass (xl x) (xG x) _ _ _ h) e6 cfX5.1 q2083 q2084 q2085 q131 q2086 hy_X5_pass (Nat.le_of_ble_eq_true rfl) (Nat.le_of_ble_eq_true rfl) ⟨Nat.zero_le _, Nat.zero_le _⟩ rfl (Nat.le_of_ble_eq_true rfl) dL_law_758) (fun r4 w5 h => ?_)
  obtain ⟨c7, h⟩ := h
  obtain ⟨c8, h⟩ := h
  refine j_icmp_eq O (tgt := 1403) dL_law_761 (by decide) c7 c8 h (fun h => ?_) (fun h => ?_)
  · exact (J.sub [0, 1, 2, 3] rfl <| wk_L_law_1403 O hm hsc hend _ _ _ _ _ hK18 _ _ _ h)
  · refine j_iconst O dL_law_764 ?_
    exact False.elim h
theorem wk_L_law_766 {x : Cx} {nn : Nat} {sc : Nat → Int} {Z : State → Prop} (O : OK x "DowryBoxesLaw" cL_law 113) (hm : xn x = 4) (hsc : SCR x nn sc) (hend : LEND x Z) (K18 : Int → Nat → Nat → Wd → Prop) (x0 : Nat) (x1 : Nat) (x2 : Nat) (x3 : Int) (hK18 : ∀ (y3 : Int) (bc bs : Nat) (w : Wd), K18 y3 bc bs w → J x Z w bc bs 18 [(0, .ref (adG (xG x) (x0))), (1, .ref (adG (xG x) (x1))), (2, .ref (adG (xG x) (x2))), (3, vI (y3))] []) (bc bs : Nat) (w : Wd) (h : wp_L_law_766 nn sc K18 x0 x1 x2 x3 bc bs w) : J x Z w bc bs 766 [(0, .ref (adG (xG x) (x0))), (1, .ref (adG (xG x) (x1))), (2, .ref (adG (xG x) (x2))), (3, vI (x3))] [] := by
  unfold wp_L_law_766 at h
  refine j_aload_n O 1 1 dL_law_766 rfl rfl ?_
  obtain ⟨e3, h⟩ := h
  refine fin_I O ⟨Nat.zero_le _, Nat.zero_le _⟩ (run_V (As := []) (st := []) O (mt_X0_undo (xl x) (xG x) _ _ _ h) e3 cfX0.1 q1327 q1328 q1329 q121 q1330 hy_X0_undo (Nat.le_of_ble_eq_true rfl) (Nat.le_of_ble_eq_true rfl) ⟨Nat.zero_le _, Nat.zero_le _⟩ rfl (Nat.le_of_ble_eq_true rfl) dL_law_767) (fun r1 w2 h => ?_)
  refine j_aload_n O 2 2 dL_law_770 rfl rfl ?_
  obtain ⟨e6, h⟩ := h
  refine fin_I O ⟨Nat.zero_le _, Nat.zero_le _⟩ (run_V (As := []) (st := [vI (r1)]) O (mt_X5_undo (xl x) (xG x) _ _ _ h) e6 cfX5.1 q1756 q1757 q1758 q131 q1759 hy_X5_undo (Nat.le_of_ble_eq_true rfl) (Nat.le_of_ble_eq_true rfl) ⟨Nat.zero_le _, Nat.zero_le _⟩ rfl (Nat.le_of_ble_eq_true rfl) dL_law_771) (fun r4 w5 h => ?_)
  obtain ⟨c7, h⟩ := h
  obtain ⟨c8, h⟩ := h
  refine j_icmp_eq O (tgt := 1403) dL_law_774 (by decide) c7 c8 h (fun h => ?_) (fun h => ?_)
  · exact (J.sub [0, 1, 2, 3] rfl <| wk_L_law_1403 O hm hsc hend _ _ _ _ _ hK18 _ _ _ h)
  · refine j_iconst O dL_law_777 ?_
    exact False.elim h
theorem wk_L_law_779 {x : Cx} {nn : Nat} {sc : Nat → Int} {Z : State → Prop} (O : OK x "DowryBoxesLaw" cL_law 113) (hm : xn x = 4) (hsc : SCR x nn sc) (hend : LEND x Z) (K18 : Int → Nat → Nat → Wd → Prop) (x0 : Nat) (x1 : Nat) (x2 : Nat) (x3 : Int) (hK18 : ∀ (y3 : Int) (bc bs : Nat) (w : Wd), K18 y3 bc bs w → J x Z w bc bs 18 [(0, .ref (adG (xG x) (x0))), (1, .ref (adG (xG x) (x1))), (2, .ref (adG (xG x) (x2))), (3, vI (y3))] []) (bc bs : Nat) (w : Wd) (h : wp_L_law_779 nn sc K18 x0 x1 x2 x3 bc bs w) : J x Z w bc bs 779 [(0, .ref (adG (xG x) (x0))), (1, .ref (adG (xG x) (x1))), (2, .ref (adG (xG x) (x2))), (3, vI (x3))] [] := by
  unfold wp_L_law_779 at h
  refine j_aload_n O 1 1 dL_law_779 rfl rfl ?_
  refine j_aload_n O 0 0 dL_law_780 rfl rfl ?_
  refine j_iload_n O 3 3 dL_law_781 rfl rfl ?_
  refine j_iconst O dL_law_782 ?_
  refine j_iadd O dL_law_783 ?_
  refine j_scV O hsc dL_law_784 h (fun v1 h => ?_)
  refine j_aload_n O 0 0 dL_law_785 rfl rfl ?_
  refine j_iload_n O 3 3 dL_law_786 rfl rfl ?_
  refine j_iconst O dL_law_787 ?_
  refine j_iadd O dL_law_788 ?_
  refine j_scV O hsc dL_law_789 h (fun v2 h => ?_)
  refine j_aload_n O 0 0 dL_law_790 rfl rfl ?_
  refine j_iload_n O 3 3 dL_law_791 rfl rfl ?_
  refine j_iconst O dL_law_792 ?_
  refine j_iadd O dL_law_793 ?_
  refine j_scV O hsc dL_law_794 h (fun v3 h => ?_)
  obtain ⟨e6, h⟩ := h
  refine fin_I O ⟨Nat.zero_le _, Nat.zero_le _⟩ (run_V (As := [vI (v1), vI (v2), vI (v3)]) (st := []) O (mt_X0_hear (xl x) (xG x) _ _ _ _ _ _ h) e6 cfX0.1 q1331 q1332 q1333 q121 q1334 hy_X0_hear (Nat.le_of_ble_eq_true rfl) (Nat.le_of_ble_eq_true rfl) ⟨Nat.zero_le _, Nat.zero_le _⟩ rfl (Nat.le_of_ble_eq_true rfl) dL_law_795) (fun r4 w5 h => ?_)
  refine j_aload_n O 2 2 dL_law_798 rfl rfl ?_
  refine j_aload_n O 0 0 dL_law_799 rfl rfl ?_
  refine j_iload_n O 3 3 dL_law_800 rfl rfl ?_
  refine j_iconst O dL_law_801 ?_
  refine j_iadd O dL_law_802 ?_
  refine j_scV O hsc dL_law_803 h (fun v7 h => ?_)
  refine j_aload_n O 0 0 dL_law_804 rfl rfl ?_
  refine j_iload_n O 3 3 dL_law_805 rfl rfl ?_
  refine j_iconst O dL_law_806 ?_
  refine j_iadd O dL_law_807 ?_
  refine j_scV O hsc dL_law_808 h (fun v8 h => ?_)
  refine j_aload_n O 0 0 dL_law_809 rfl rfl ?_
  refine j_iload_n O 3 3 dL_law_810 rfl rfl ?_
  refine j_iconst O dL_law_811 ?_
  refine j_iadd O dL_law_812 ?_
  refine j_scV O hsc dL_law_813 h (fun v9 h => ?_)
  obtain ⟨e12, h⟩ := h
  refine fin_I O ⟨Nat.zero_le _, Nat.zero_le _⟩ (run_V (As := [vI (v7), vI (v8), vI (v9)]) (st := [vI (r4)]) O (mt_X5_hear (xl x) (xG x) _ _ _ _ _ _ h) e12 cfX5.1 q2095 q2096 q2097 q131 q2098 hy_X5_hear (Nat.le_of_ble_eq_true rfl) (Nat.le_of_ble_eq_true rfl) ⟨Nat.zero_le _, Nat.zero_le _⟩ rfl (Nat.le_of_ble_eq_true rfl) dL_law_814) (fun r10 w11 h => ?_)
  obtain ⟨c13, h⟩ := h
  obtain ⟨c14, h⟩ := h
  refine j_icmp_eq O (tgt := 1403) dL_law_817 (by decide) c13 c14 h (fun h => ?_) (fun h => ?_)
  · exact (J.sub [0, 1, 2, 3] rfl <| wk_L_law_1403 O hm hsc hend _ _ _ _ _ hK18 _ _ _ h)
  · refine j_iconst O dL_law_820 ?_
    exact False.elim h
theorem wk_L_law_822 {x : Cx} {nn : Nat} {sc : Nat → Int} {Z : State → Prop} (O : OK x "DowryBoxesLaw" cL_law 113) (hm : xn x = 4) (hsc : SCR x nn sc) (hend : LEND x Z) (K18 : Int → Nat → Nat → Wd → Prop) (x0 : Nat) (x1 : Nat) (x2 : Nat) (x3 : Int) (hK18 : ∀ (y3 : Int) (bc bs : Nat) (w : Wd), K18 y3 bc bs w → J x Z w bc bs 18 [(0, .ref (adG (xG x) (x0))), (1, .ref (adG (xG x) (x1))), (2, .ref (adG (xG x) (x2))), (3, vI (y3))] []) (bc bs : Nat) (w : Wd) (h : wp_L_law_822 nn sc K18 x0 x1 x2 x3 bc bs w) : J x Z w bc bs 822 [(0, .ref (adG (xG x) (x0))), (1, .ref (adG (xG x) (x1))), (2, .ref (adG (xG x) (x2))), (3, vI (x3))] [] := by
  unfold wp_L_law_822 at h
  refine j_aload_n O 1 1 dL_law_822 rfl rfl ?_
  obtain ⟨e3, h⟩ := h
  refine fin_I O ⟨Nat.zero_le _, Nat.zero_le _⟩ (run_V (As := []) (st := []) O (mt_X0_forget (xl x) (xG x) _ _ _ h) e3 cfX0.1 q1335 q1336 q1337 q121 q1338 hy_X0_forget (Nat.le_of_ble_eq_true rfl) (Nat.le_of_ble_eq_true rfl) ⟨Nat.zero_le _, Nat.zero_le _⟩ rfl (Nat.le_of_ble_eq_true rfl) dL_law_823) (fun r1 w2 h => ?_)
  refine j_aload_n O 2 2 dL_law_826 rfl rfl ?_
  obtain ⟨e6, h⟩ := h
  refine fin_I O ⟨Nat.zero_le _, Nat.zero_le _⟩ (run_V (As := []) (st := [vI (r1)]) O (mt_X5_forget (xl x) (xG x) _ _ _ h) e6 cfX5.1 q2099 q2100 q2101 q131 q2102 hy_X5_forget (Nat.le_of_ble_eq_true rfl) (Nat.le_of_ble_eq_true rfl) ⟨Nat.zero_le _, Nat.zero_le _⟩ rfl (Nat.le_of_ble_eq_true rfl) dL_law_827) (fun r4 w5 h => ?_)
  obtain ⟨c7, h⟩ := h
  obtain ⟨c8, h⟩ := h
  refine j_icmp_eq O (tgt := 1403) dL_law_830 (by decide) c7 c8 h (fun h => ?_) (fun h => ?_)
  · exact (J.sub [0, 1, 2, 3] rfl <| wk_L_law_1403 O hm hsc hend _ _ _ _ _ hK18 _ _ _ h)
  · refine j_iconst O dL_law_833 ?_
    exact False.elim h
theorem wk_L_law_835 {x : Cx} {nn : Nat} {sc : Nat → Int} {Z : State → Prop} (O : OK x "DowryBoxesLaw" cL_law 113) (hm : xn x = 4) (hsc : SCR x nn sc) (hend : LEND x Z) (K18 : Int → Nat → Nat → Wd → Prop) (x0 : Nat) (x1 : Nat) (x2 : Nat) (x3 : Int) (hK18 : ∀ (y3 : Int) (bc bs : Nat) (w : Wd), K18 y3 bc bs w → J x Z w bc bs 18 [(0, .ref (adG (xG x) (x0))), (1, .ref (adG (xG x) (x1))), (2, .ref (adG (xG x) (x2))), (3, vI (y3))] []) (bc bs : Nat) (w : Wd) (h : wp_L_law_835 nn sc K18 x0 x1 x2 x3 bc bs w) : J x Z w bc bs 835 [(0, .ref (adG (xG x) (x0))), (1, .ref (adG (xG x) (x1))), (2, .ref (adG (xG x) (x2))), (3, vI (x3))] [] := by
  unfold wp_L_law_835 at h
  refine j_aload_n O 1 1 dL_law_835 rfl rfl ?_
  obtain ⟨e3, h⟩ := h
  refine fin_I O ⟨Nat.zero_le _, Nat.zero_le _⟩ (run_V (As := []) (st := []) O (mt_X0_which (xl x) (xG x) _ _ _ h) e3 cfX0.1 q1339 q1340 q1341 q121 q1342 hy_X0_which (Nat.le_of_ble_eq_true rfl) (Nat.le_of_ble_eq_true rfl) ⟨Nat.zero_le _, Nat.zero_le _⟩ rfl (Nat.le_of_ble_eq_true rfl) dL_law_836) (fun r1 w2 h => ?_)
  refine j_aload_n O 2 2 dL_law_839 rfl rfl ?_
  obtain ⟨e6, h⟩ := h
  refine fin_I O ⟨Nat.zero_le _, Nat.zero_le _⟩ (run_V (As := []) (st := [vI (r1)]) O (mt_X5_which (xl x) (xG x) _ _ _ h) e6 cfX5.1 q2103 q2104 q2105 q131 q2106 hy_X5_which (Nat.le_of_ble_eq_true rfl) (Nat.le_of_ble_eq_true rfl) ⟨Nat.zero_le _, Nat.zero_le _⟩ rfl (Nat.le_of_ble_eq_true rfl) dL_law_840) (fun r4 w5 h => ?_)
  obtain ⟨c7, h⟩ := h
  obtain ⟨c8, h⟩ := h
  refine j_icmp_eq O (tgt := 1403) dL_law_843 (by decide) c7 c8 h (fun h => ?_) (fun h => ?_)
  · exact (J.sub [0, 1, 2, 3] rfl <| wk_L_law_1403 O hm hsc hend _ _ _ _ _ hK18 _ _ _ h)
  · refine j_iconst O dL_law_846 ?_
    exact False.elim h
theorem wk_L_law_848 {x : Cx} {nn : Nat} {sc : Nat → Int} {Z : State → Prop} (O : OK x "DowryBoxesLaw" cL_law 113) (hm : xn x = 4) (hsc : SCR x nn sc) (hend : LEND x Z) (K18 : Int → Nat → Nat → Wd → Prop) (x0 : Nat) (x1 : Nat) (x2 : Nat) (x3 : Int) (hK18 : ∀ (y3 : Int) (bc bs : Nat) (w : Wd), K18 y3 bc bs w → J x Z w bc bs 18 [(0, .ref (adG (xG x) (x0))), (1, .ref (adG (xG x) (x1))), (2, .ref (adG (xG x) (x2))), (3, vI (y3))] []) (bc bs : Nat) (w : Wd) (h : wp_L_law_848 nn sc K18 x0 x1 x2 x3 bc bs w) : J x Z w bc bs 848 [(0, .ref (adG (xG x) (x0))), (1, .ref (adG (xG x) (x1))), (2, .ref (adG (xG x) (x2))), (3, vI (x3))] [] := by
  unfold wp_L_law_848 at h
  refine j_aload_n O 1 1 dL_law_848 rfl rfl ?_
  refine j_aload_n O 0 0 dL_law_849 rfl rfl ?_
  refine j_iload_n O 3 3 dL_law_850 rfl rfl ?_
  refine j_iconst O dL_law_851 ?_
  refine j_iadd O dL_law_852 ?_
  refine j_scV O hsc dL_law_853 h (fun v1 h => ?_)
  obtain ⟨e4, h⟩ := h
  refine fin_I O ⟨Nat.zero_le _, Nat.zero_le _⟩ (run_V (As := [vI (v1)]) (st := []) O (mt_X0_listen (xl x) (xG x) _ _ _ _ h) e4 cfX0.1 q1347 q1348 q1349 q121 q1350 hy_X0_listen (Nat.le_of_ble_eq_true rfl) (Nat.le_of_ble_eq_true rfl) ⟨Nat.zero_le _, Nat.zero_le _⟩ rfl (Nat.le_of_ble_eq_true rfl) dL_law_854) (fun r2 w3 h => ?_)
  refine j_aload_n O 2 2 dL_law_857 rfl rfl ?_
  refine j_aload_n O 0 0 dL_law_858 rfl rfl ?_
  refine j_iload_n O 3 3 dL_law_859 rfl rfl ?_
  refine j_iconst O dL_law_860 ?_
  refine j_iadd O dL_law_861 ?_
  refine j_scV O hsc dL_law_862 h (fun v5 h => ?_)
  obtain ⟨e8, h⟩ := h
  refine fin_I O ⟨Nat.zero_le _, Nat.zero_le _⟩ (run_V (As := [vI (v5)]) (st := [vI (r2)]) O (mt_X5_listen (xl x) (xG x) _ _ _ _ h) e8 cfX5.1 q2111 q2112 q2113 q131 q2114 hy_X5_listen (Nat.le_of_ble_eq_true rfl) (Nat.le_of_ble_eq_true rfl) ⟨Nat.zero_le _, Nat.zero_le _⟩ rfl (Nat.le_of_ble_eq_true rfl) dL_law_863) (fun r6 w7 h => ?_)
  obtain ⟨c9, h⟩ := h
  obtain ⟨c10, h⟩ := h
  refine j_icmp_eq O (tgt := 1403) dL_law_866 (by decide) c9 c10 h (fun h => ?_) (fun h => ?_)
  · exact (J.sub [0, 1, 2, 3] rfl <| wk_L_law_1403 O hm hsc hend _ _ _ _ _ hK18 _ _ _ h)
  · refine j_iconst O dL_law_869 ?_
    exact False.elim h
theorem wk_L_law_871 {x : Cx} {nn : Nat} {sc : Nat → Int} {Z : State → Prop} (O : OK x "DowryBoxesLaw" cL_law 113) (hm : xn x = 4) (hsc : SCR x nn sc) (hend : LEND x Z) (K18 : Int → Nat → Nat → Wd → Prop) (x0 : Nat) (x1 : Nat) (x2 : Nat) (x3 : Int) (hK18 : ∀ (y3 : Int) (bc bs : Nat) (w : Wd), K18 y3 bc bs w → J x Z w bc bs 18 [(0, .ref (adG (xG x) (x0))), (1, .ref (adG (xG x) (x1))), (2, .ref (adG (xG x) (x2))), (3, vI (y3))] []) (bc bs : Nat) (w : Wd) (h : wp_L_law_871 nn sc K18 x0 x1 x2 x3 bc bs w) : J x Z w bc bs 871 [(0, .ref (adG (xG x) (x0))), (1, .ref (adG (xG x) (x1))), (2, .ref (adG (xG x) (x2))), (3, vI (x3))] [] := by
  unfold wp_L_law_871 at h
  refine j_aload_n O 1 1 dL_law_871 rfl rfl ?_
  refine j_aload_n O 0 0 dL_law_872 rfl rfl ?_
  refine j_iload_n O 3 3 dL_law_873 rfl rfl ?_
  refine j_iconst O dL_law_874 ?_
  refine j_iadd O dL_law_875 ?_
  refine j_scV O hsc dL_law_876 h (fun v1 h => ?_)
  obtain ⟨e4, h⟩ := h
  refine fin_I O ⟨Nat.zero_le _, Nat.zero_le _⟩ (run_V (As := [vI (v1)]) (st := []) O (mt_X0_steady (xl x) (xG x) _ _ _ _ h) e4 cfX0.1 q1353 q1354 q1355 q121 q1356 hy_X0_steady (Nat.le_of_ble_eq_true rfl) (Nat.le_of_ble_eq_true rfl) ⟨Nat.zero_le _, Nat.zero_le _⟩ rfl (Nat.le_of_ble_eq_true rfl) dL_law_877) (fun r2 w3 h => ?_)
  refine j_aload_n O 2 2 dL_law_880 rfl rfl ?_
  refine j_aload_n O 0 0 dL_law_881 rfl rfl ?_
  refine j_iload_n O 3 3 dL_law_882 rfl rfl ?_
  refine j_iconst O dL_law_883 ?_
  refine j_iadd O dL_law_884 ?_
  refine j_scV O hsc dL_law_885 h (fun v5 h => ?_)
  obtain ⟨e8, h⟩ := h
  refine fin_I O ⟨Nat.zero_le _, Nat.zero_le _⟩ (run_V (As := [vI (v5)]) (st := [vI (r2)]) O (mt_X5_steady (xl x) (xG x) _ _ _ _ h) e8 cfX5.1 q2116 q2117 q2118 q131 q2119 hy_X5_steady (Nat.le_of_ble_eq_true rfl) (Nat.le_of_ble_eq_true rfl) ⟨Nat.zero_le _, Nat.zero_le _⟩ rfl (Nat.le_of_ble_eq_true rfl) dL_law_886) (fun r6 w7 h => ?_)
  obtain ⟨c9, h⟩ := h
  obtain ⟨c10, h⟩ := h
  refine j_icmp_eq O (tgt := 1403) dL_law_889 (by decide) c9 c10 h (fun h => ?_) (fun h => ?_)
  · exact (J.sub [0, 1, 2, 3] rfl <| wk_L_law_1403 O hm hsc hend _ _ _ _ _ hK18 _ _ _ h)
  · refine j_iconst O dL_law_892 ?_
    exact False.elim h
theorem wk_L_law_894 {x : Cx} {nn : Nat} {sc : Nat → Int} {Z : State → Prop} (O : OK x "DowryBoxesLaw" cL_law 113) (hm : xn x = 4) (hsc : SCR x nn sc) (hend : LEND x Z) (K18 : Int → Nat → Nat → Wd → Prop) (x0 : Nat) (x1 : Nat) (x2 : Nat) (x3 : Int) (hK18 : ∀ (y3 : Int) (bc bs : Nat) (w : Wd), K18 y3 bc bs w → J x Z w bc bs 18 [(0, .ref (adG (xG x) (x0))), (1, .ref (adG (xG x) (x1))), (2, .ref (adG (xG x) (x2))), (3, vI (y3))] []) (bc bs : Nat) (w : Wd) (h : wp_L_law_894 nn sc K18 x0 x1 x2 x3 bc bs w) : J x Z w bc bs 894 [(0, .ref (adG (xG x) (x0))), (1, .ref (adG (xG x) (x1))), (2, .ref (adG (xG x) (x2))), (3, vI (x3))] [] := by
  unfold wp_L_law_894 at h
  refine j_aload_n O 1 1 dL_law_894 rfl rfl ?_
  refine j_aload_n O 0 0 dL_law_895 rfl rfl ?_
  refine j_iload_n O 3 3 dL_law_896 rfl rfl ?_
  refine j_iconst O dL_law_897 ?_
  refine j_iadd O dL_law_898 ?_
  refine j_scV O hsc dL_law_899 h (fun v1 h => ?_)
  refine j_aload_n O 0 0 dL_law_900 rfl rfl ?_
  refine j_iload_n O 3 3 dL_law_901 rfl rfl ?_
  refine j_iconst O dL_law_902 ?_
  refine j_iadd O dL_law_903 ?_
  refine j_scV O hsc dL_law_904 h (fun v2 h => ?_)
  obtain ⟨e5, h⟩ := h
  refine fin_I O ⟨Nat.zero_le _, Nat.zero_le _⟩ (run_V (As := [vI (v1), vI (v2)]) (st := []) O (mt_X0_about (xl x) (xG x) _ _ _ _ _ h) e5 cfX0.1 q1376 q1377 q1378 q121 q1379 hy_X0_about (Nat.le_of_ble_eq_true rfl) (Nat.le_of_ble_eq_true rfl) ⟨Nat.zero_le _, Nat.zero_le _⟩ rfl (Nat.le_of_ble_eq_true rfl) dL_law_905) (fun r3 w4 h => ?_)
  refine j_aload_n O 2 2 dL_law_908 rfl rfl ?_
  refine j_aload_n O 0 0 dL_law_909 rfl rfl ?_
  refine j_iload_n O 3 3 dL_law_910 rfl rfl ?_
  refine j_iconst O dL_law_911 ?_
  refine j_iadd O dL_law_912 ?_
  refine j_scV O hsc dL_law_913 h (fun v6 h => ?_)
  refine j_aload_n O 0 0 dL_law_914 rfl rfl ?_
  refine j_iload_n O 3 3 dL_law_915 rfl rfl ?_
  refine j_iconst O dL_law_916 ?_
  refine j_iadd O dL_law_917 ?_
  refine j_scV O hsc dL_law_918 h (fun v7 h => ?_)
  obtain ⟨e10, h⟩ := h
  refine fin_I O ⟨Nat.zero_le _, Nat.zero_le _⟩ (run_V (As := [vI (v6), vI (v7)]) (st := [vI (r3)]) O (mt_X5_about (xl x) (xG x) _ _ _ _ _ h) e10 cfX5.1 q2136 q2137 q2138 q131 q2139 hy_X5_about (Nat.le_of_ble_eq_true rfl) (Nat.le_of_ble_eq_true rfl) ⟨Nat.zero_le _, Nat.zero_le _⟩ rfl (Nat.le_of_ble_eq_true rfl) dL_law_919) (fun r8 w9 h => ?_)
  obtain ⟨c11, h⟩ := h
  obtain ⟨c12, h⟩ := h
  refine j_icmp_eq O (tgt := 1403) dL_law_922 (by decide) c11 c12 h (fun h => ?_) (fun h => ?_)
  · exact (J.sub [0, 1, 2, 3] rfl <| wk_L_law_1403 O hm hsc hend _ _ _ _ _ hK18 _ _ _ h)
  · refine j_iconst O dL_law_925 ?_
    exact False.elim h
theorem wk_L_law_927 {x : Cx} {nn : Nat} {sc : Nat → Int} {Z : State → Prop} (O : OK x "DowryBoxesLaw" cL_law 113) (hm : xn x = 4) (hsc : SCR x nn sc) (hend : LEND x Z) (K18 : Int → Nat → Nat → Wd → Prop) (x0 : Nat) (x1 : Nat) (x2 : Nat) (x3 : Int) (hK18 : ∀ (y3 : Int) (bc bs : Nat) (w : Wd), K18 y3 bc bs w → J x Z w bc bs 18 [(0, .ref (adG (xG x) (x0))), (1, .ref (adG (xG x) (x1))), (2, .ref (adG (xG x) (x2))), (3, vI (y3))] []) (bc bs : Nat) (w : Wd) (h : wp_L_law_927 nn sc K18 x0 x1 x2 x3 bc bs w) : J x Z w bc bs 927 [(0, .ref (adG (xG x) (x0))), (1, .ref (adG (xG x) (x1))), (2, .ref (adG (xG x) (x2))), (3, vI (x3))] [] := by
  unfold wp_L_law_927 at h
  refine j_aload_n O 1 1 dL_law_927 rfl rfl ?_
  refine j_aload_n O 0 0 dL_law_928 rfl rfl ?_
  refine j_iload_n O 3 3 dL_law_929 rfl rfl ?_
  refine j_iconst O dL_law_930 ?_
  refine j_iadd O dL_law_931 ?_
  refine j_scV O hsc dL_law_932 h (fun v1 h => ?_)
  refine j_aload_n O 0 0 dL_law_933 rfl rfl ?_
  refine j_iload_n O 3 3 dL_law_934 rfl rfl ?_
  refine j_iconst O dL_law_935 ?_
  refine j_iadd O dL_law_936 ?_
  refine j_scV O hsc dL_law_937 h (fun v2 h => ?_)
  refine j_aload_n O 0 0 dL_law_938 rfl rfl ?_
  refine j_iload_n O 3 3 dL_law_939 rfl rfl ?_
  refine j_iconst O dL_law_940 ?_
  refine j_iadd O dL_law_941 ?_
  refine j_scV O hsc dL_law_942 h (fun v3 h => ?_)
  obtain ⟨e6, h⟩ := h
  refine fin_I O ⟨Nat.zero_le _, Nat.zero_le _⟩ (run_V (As := [vI (v1), vI (v2), vI (v3)]) (st := []) O (mt_X0_keep (xl x) (xG x) _ _ _ _ _ _ h) e6 cfX0.1 q1396 q1397 q1398 q121 q1399 hy_X0_keep (Nat.le_of_ble_eq_true rfl) (Nat.le_of_ble_eq_true rfl) ⟨Nat.zero_le _, Nat.zero_le _⟩ rfl (Nat.le_of_ble_eq_true rfl) dL_law_943) (fun r4 w5 h => ?_)
  refine j_aload_n O 2 2 dL_law_946 rfl rfl ?_
  refine j_aload_n O 0 0 dL_law_947 rfl rfl ?_
  refine j_iload_n O 3 3 dL_law_948 rfl rfl ?_
  refine j_iconst O dL_law_949 ?_
  refine j_iadd O dL_law_950 ?_
  refine j_scV O hsc dL_law_951 h (fun v7 h => ?_)
  refine j_aload_n O 0 0 dL_law_952 rfl rfl ?_
  refine j_iload_n O 3 3 dL_law_953 rfl rfl ?_
  refine j_iconst O dL_law_954 ?_
  refine j_iadd O dL_law_955 ?_
  refine j_scV O hsc dL_law_956 h (fun v8 h => ?_)
  refine j_aload_n O 0 0 dL_law_957 rfl rfl ?_
  refine j_iload_n O 3 3 dL_law_958 rfl rfl ?_
  refine j_iconst O dL_law_959 ?_
  refine j_iadd O dL_law_960 ?_
  refine j_scV O hsc dL_law_961 h (fun v9 h => ?_)
  obtain ⟨e12, h⟩ := h
  refine fin_I O ⟨Nat.zero_le _, Nat.zero_le _⟩ (run_V (As := [vI (v7), vI (v8), vI (v9)]) (st := [vI (r4)]) O (mt_X5_keep (xl x) (xG x) _ _ _ _ _ _ h) e12 cfX5.1 q2149 q2150 q2151 q131 q2152 hy_X5_keep (Nat.le_of_ble_eq_true rfl) (Nat.le_of_ble_eq_true rfl) ⟨Nat.zero_le _, Nat.zero_le _⟩ rfl (Nat.le_of_ble_eq_true rfl) dL_law_962) (fun r10 w11 h => ?_)
  obtain ⟨c13, h⟩ := h
  obtain ⟨c14, h⟩ := h
  refine j_icmp_eq O (tgt := 1403) dL_law_965 (by decide) c13 c14 h (fun h => ?_) (fun h => ?_)
  · exact (J.sub [0, 1, 2, 3] rfl <| wk_L_law_1403 O hm hsc hend _ _ _ _ _ hK18 _ _ _ h)
  · refine j_iconst O dL_law_968 ?_
    exact False.elim h
theorem wk_L_law_970 {x : Cx} {nn : Nat} {sc : Nat → Int} {Z : State → Prop} (O : OK x "DowryBoxesLaw" cL_law 113) (hm : xn x = 4) (hsc : SCR x nn sc) (hend : LEND x Z) (K18 : Int → Nat → Nat → Wd → Prop) (x0 : Nat) (x1 : Nat) (x2 : Nat) (x3 : Int) (hK18 : ∀ (y3 : Int) (bc bs : Nat) (w : Wd), K18 y3 bc bs w → J x Z w bc bs 18 [(0, .ref (adG (xG x) (x0))), (1, .ref (adG (xG x) (x1))), (2, .ref (adG (xG x) (x2))), (3, vI (y3))] []) (bc bs : Nat) (w : Wd) (h : wp_L_law_970 nn sc K18 x0 x1 x2 x3 bc bs w) : J x Z w bc bs 970 [(0, .ref (adG (xG x) (x0))), (1, .ref (adG (xG x) (x1))), (2, .ref (adG (xG x) (x2))), (3, vI (x3))] [] := by
  unfold wp_L_law_970 at h
  refine j_aload_n O 1 1 dL_law_970 rfl rfl ?_
  refine j_aload_n O 0 0 dL_law_971 rfl rfl ?_
  refine j_iload_n O 3 3 dL_law_972 rfl rfl ?_
  refine j_iconst O dL_law_973 ?_
  refine j_iadd O dL_law_974 ?_
  refine j_scV O hsc dL_law_975 h (fun v1 h => ?_)
  refine j_aload_n O 0 0 dL_law_976 rfl rfl ?_
  refine j_iload_n O 3 3 dL_law_977 rfl rfl ?_
  refine j_iconst O dL_law_978 ?_
  refine j_iadd O dL_law_979 ?_
  refine j_scV O hsc dL_law_980 h (fun v2 h => ?_)
  refine j_aload_n O 0 0 dL_law_981 rfl rfl ?_
  refine j_iload_n O 3 3 dL_law_982 rfl rfl ?_
  refine j_iconst O dL_law_983 ?_
  refine j_iadd O dL_law_984 ?_
  refine j_scV O hsc dL_law_985 h (fun v3 h => ?_)
  obtain ⟨e6, h⟩ := h
  refine fin_I O ⟨Nat.zero_le _, Nat.zero_le _⟩ (run_V (As := [vI (v1), vI (v2), vI (v3)]) (st := []) O (mt_X0_clash (xl x) (xG x) _ _ _ _ _ _ h) e6 cfX0.1 q1409 q1410 q1411 q121 q1412 hy_X0_clash (Nat.le_of_ble_eq_true rfl) (Nat.le_of_ble_eq_true rfl) ⟨Nat.zero_le _, Nat.zero_le _⟩ rfl (Nat.le_of_ble_eq_true rfl) dL_law_986) (fun r4 w5 h => ?_)
  refine j_aload_n O 2 2 dL_law_989 rfl rfl ?_
  refine j_aload_n O 0 0 dL_law_990 rfl rfl ?_
  refine j_iload_n O 3 3 dL_law_991 rfl rfl ?_
  refine j_iconst O dL_law_992 ?_
  refine j_iadd O dL_law_993 ?_
  refine j_scV O hsc dL_law_994 h (fun v7 h => ?_)
  refine j_aload_n O 0 0 dL_law_995 rfl rfl ?_
  refine j_iload_n O 3 3 dL_law_996 rfl rfl ?_
  refine j_iconst O dL_law_997 ?_
  refine j_iadd O dL_law_998 ?_
  refine j_scV O hsc dL_law_999 h (fun v8 h => ?_)
  refine j_aload_n O 0 0 dL_law_1000 rfl rfl ?_
  refine j_iload_n O 3 3 dL_law_1001 rfl rfl ?_
  refine j_iconst O dL_law_1002 ?_
  refine j_iadd O dL_law_1003 ?_
  refine j_scV O hsc dL_law_1004 h (fun v9 h => ?_)
  obtain ⟨e12, h⟩ := h
  refine fin_I O ⟨Nat.zero_le _, Nat.zero_le _⟩ (run_V (As := [vI (v7), vI (v8), vI (v9)]) (st := [vI (r4)]) O (mt_X5_clash (xl x) (xG x) _ _ _ _ _ _ h) e12 cfX5.1 q2162 q2163 q2164 q131 q2165 hy_X5_clash (Nat.le_of_ble_eq_true rfl) (Nat.le_of_ble_eq_true rfl) ⟨Nat.zero_le _, Nat.zero_le _⟩ rfl (Nat.le_of_ble_eq_true rfl) dL_law_1005) (fun r10 w11 h => ?_)
  obtain ⟨c13, h⟩ := h
  obtain ⟨c14, h⟩ := h
  refine j_icmp_eq O (tgt := 1403) dL_law_1008 (by decide) c13 c14 h (fun h => ?_) (fun h => ?_)
  · exact (J.sub [0, 1, 2, 3] rfl <| wk_L_law_1403 O hm hsc hend _ _ _ _ _ hK18 _ _ _ h)
  · refine j_iconst O dL_law_1011 ?_
    exact False.elim h
theorem wk_L_law_1013 {x : Cx} {nn : Nat} {sc : Nat → Int} {Z : State → Prop} (O : OK x "DowryBoxesLaw" cL_law 113) (hm : xn x = 4) (hsc : SCR x nn sc) (hend : LEND x Z) (K18 : Int → Nat → Nat → Wd → Prop) (x0 : Nat) (x1 : Nat) (x2 : Nat) (x3 : Int) (hK18 : ∀ (y3 : Int) (bc bs : Nat) (w : Wd), K18 y3 bc bs w → J x Z w bc bs 18 [(0, .ref (adG (xG x) (x0))), (1, .ref (adG (xG x) (x1))), (2, .ref (adG (xG x) (x2))), (3, vI (y3))] []) (bc bs : Nat) (w : Wd) (h : wp_L_law_1013 nn sc K18 x0 x1 x2 x3 bc bs w) : J x Z w bc bs 1013 [(0, .ref (adG (xG x) (x0))), (1, .ref (adG (xG x) (x1))), (2, .ref (adG (xG x) (x2))), (3, vI (x3))] [] := by
  unfold wp_L_law_1013 at h
  refine j_aload_n O 1 1 dL_law_1013 rfl rfl ?_
  refine j_aload_n O 0 0 dL_law_1014 rfl rfl ?_
  refine j_iload_n O 3 3 dL_law_1015 rfl rfl ?_
  refine j_iconst O dL_law_1016 ?_
  refine j_iadd O dL_law_1017 ?_
  refine j_scV O hsc dL_law_1018 h (fun v1 h => ?_)
  refine j_aload_n O 0 0 dL_law_1019 rfl rfl ?_
  refine j_iload_n O 3 3 dL_law_1020 rfl rfl ?_
  refine j_iconst O dL_law_1021 ?_
  refine j_iadd O dL_law_1022 ?_
  refine j_scV O hsc dL_law_1023 h (fun v2 h => ?_)
  refine j_aload_n O 0 0 dL_law_1024 rfl rfl ?_
  refine j_iload_n O 3 3 dL_law_1025 rfl rfl ?_
  refine j_iconst O dL_law_1026 ?_
  refine j_iadd O dL_law_1027 ?_
  refine j_scV O hsc dL_law_1028 h (fun v3 h => ?_)
  obtain ⟨e6, h⟩ := h
  refine fin_I O ⟨Nat.zero_le _, Nat.zero_le _⟩ (run_V (As := [vI (v1), vI (v2), vI (v3)]) (st := []) O (mt_X0_best (xl x) (xG x) _ _ _ _ _ _ h) e6 cfX0.1 q1424 q1425 q1426 q121 q1427 hy_X0_best (Nat.le_of_ble_eq_true rfl) (Nat.le_of_ble_eq_true rfl) ⟨Nat.zero_le _, Nat.zero_le _⟩ rfl (Nat.le_of_ble_eq_true rfl) dL_law_1029) (fun r4 w5 h => ?_)
  refine j_aload_n O 2 2 dL_law_1032 rfl rfl ?_
  refine j_aload_n O 0 0 dL_law_1033 rfl rfl ?_
  refine j_iload_n O 3 3 dL_law_1034 rfl rfl ?_
  refine j_iconst O dL_law_1035 ?_
  refine j_iadd O dL_law_1036 ?_
  refine j_scV O hsc dL_law_1037 h (fun v7 h => ?_)
  refine j_aload_n O 0 0 dL_law_1038 rfl rfl ?_
  refine j_iload_n O 3 3 dL_law_1039 rfl rfl ?_
  refine j_iconst O dL_law_1040 ?_
  refine j_iadd O dL_law_1041 ?_
  refine j_scV O hsc dL_law_1042 h (fun v8 h => ?_)
  refine j_aload_n O 0 0 dL_law_1043 rfl rfl ?_
  refine j_iload_n O 3 3 dL_law_1044 rfl rfl ?_
  refine j_iconst O dL_law_1045 ?_
  refine j_iadd O dL_law_1046 ?_
  refine j_scV O hsc dL_law_1047 h (fun v9 h => ?_)
  obtain ⟨e12, h⟩ := h
  refine fin_I O ⟨Nat.zero_le _, Nat.zero_le _⟩ (run_V (As := [vI (v7), vI (v8), vI (v9)]) (st := [vI (r4)]) O (mt_X5_best (xl x) (xG x) _ _ _ _ _ _ h) e12 cfX5.1 q2174 q2175 q2176 q131 q2177 hy_X5_best (Nat.le_of_ble_eq_true rfl) (Nat.le_of_ble_eq_true rfl) ⟨Nat.zero_le _, Nat.zero_le _⟩ rfl (Nat.le_of_ble_eq_true rfl) dL_law_1048) (fun r10 w11 h => ?_)
  obtain ⟨c13, h⟩ := h
  obtain ⟨c14, h⟩ := h
  refine j_icmp_eq O (tgt := 1403) dL_law_1051 (by decide) c13 c14 h (fun h => ?_) (fun h => ?_)
  · exact (J.sub [0, 1, 2, 3] rfl <| wk_L_law_1403 O hm hsc hend _ _ _ _ _ hK18 _ _ _ h)
  · refine j_iconst O dL_law_1054 ?_
    exact False.elim h
theorem wk_L_law_1056 {x : Cx} {nn : Nat} {sc : Nat → Int} {Z : State → Prop} (O : OK x "DowryBoxesLaw" cL_law 113) (hm : xn x = 4) (hsc : SCR x nn sc) (hend : LEND x Z) (K18 : Int → Nat → Nat → Wd → Prop) (x0 : Nat) (x1 : Nat) (x2 : Nat) (x3 : Int) (hK18 : ∀ (y3 : Int) (bc bs : Nat) (w : Wd), K18 y3 bc bs w → J x Z w bc bs 18 [(0, .ref (adG (xG x) (x0))), (1, .ref (adG (xG x) (x1))), (2, .ref (adG (xG x) (x2))), (3, vI (y3))] []) (bc bs : Nat) (w : Wd) (h : wp_L_law_1056 nn sc K18 x0 x1 x2 x3 bc bs w) : J x Z w bc bs 1056 [(0, .ref (adG (xG x) (x0))), (1, .ref (adG (xG x) (x1))), (2, .ref (adG (xG x) (x2))), (3, vI (x3))] [] := by
  unfold wp_L_law_1056 at h
  refine j_aload_n O 1 1 dL_law_1056 rfl rfl ?_
  refine j_aload_n O 0 0 dL_law_1057 rfl rfl ?_
  refine j_iload_n O 3 3 dL_law_1058 rfl rfl ?_
  refine j_iconst O dL_law_1059 ?_
  refine j_iadd O dL_law_1060 ?_
  refine j_scV O hsc dL_law_1061 h (fun v1 h => ?_)
  refine j_aload_n O 0 0 dL_law_1062 rfl rfl ?_
  refine j_iload_n O 3 3 dL_law_1063 rfl rfl ?_
  refine j_iconst O dL_law_1064 ?_
  refine j_iadd O dL_law_1065 ?_
  refine j_scV O hsc dL_law_1066 h (fun v2 h => ?_)
  refine j_aload_n O 0 0 dL_law_1067 rfl rfl ?_
  refine j_iload_n O 3 3 dL_law_1068 rfl rfl ?_
  refine j_iconst O dL_law_1069 ?_
  refine j_iadd O dL_law_1070 ?_
  refine j_scV O hsc dL_law_1071 h (fun v3 h => ?_)
  refine j_aload_n O 0 0 dL_law_1072 rfl rfl ?_
  refine j_iload_n O 3 3 dL_law_1073 rfl rfl ?_
  refine j_iconst O dL_law_1074 ?_
  refine j_iadd O dL_law_1075 ?_
  refine j_scV O hsc dL_law_1076 h (fun v4 h => ?_)
  obtain ⟨e7, h⟩ := h
  refine fin_I O ⟨Nat.zero_le _, Nat.zero_le _⟩ (run_V (As := [vI (v1), vI (v2), vI (v3), vI (v4)]) (st := []) O (mt_X0_filed (xl x) (xG x) _ _ _ _ _ _ _ h) e7 cfX0.1 q1428 q1429 q1430 q121 q1431 hy_X0_filed (Nat.le_of_ble_eq_true rfl) (Nat.le_of_ble_eq_true rfl) ⟨Nat.zero_le _, Nat.zero_le _⟩ rfl (Nat.le_of_ble_eq_true rfl) dL_law_1077) (fun r5 w6 h => ?_)
  refine j_aload_n O 2 2 dL_law_1080 rfl rfl ?_
  refine j_aload_n O 0 0 dL_law_1081 rfl rfl ?_
  refine j_iload_n O 3 3 dL_law_1082 rfl rfl ?_
  refine j_iconst O dL_law_1083 ?_
  refine j_iadd O dL_law_1084 ?_
  refine j_scV O hsc dL_law_1085 h (fun v8 h => ?_)
  refine j_aload_n O 0 0 dL_law_1086 rfl rfl ?_
  refine j_iload_n O 3 3 dL_law_1087 rfl rfl ?_
  refine j_iconst O dL_law_1088 ?_
  refine j_iadd O dL_law_1089 ?_
  refine j_scV O hsc dL_law_1090 h (fun v9 h => ?_)
  refine j_aload_n O 0 0 dL_law_1091 rfl rfl ?_
  refine j_iload_n O 3 3 dL_law_1092 rfl rfl ?_
  refine j_iconst O dL_law_1093 ?_
  refine j_iadd O dL_law_1094 ?_
  refine j_scV O hsc dL_law_1095 h (fun v10 h => ?_)
  refine j_aload_n O 0 0 dL_law_1096 rfl rfl ?_
  refine j_iload_n O 3 3 dL_law_1097 rfl rfl ?_
  refine j_iconst O dL_law_1098 ?_
  refine j_iadd O dL_law_1099 ?_
  refine j_scV O hsc dL_law_1100 h (fun v11 h => ?_)
  obtain ⟨e14, h⟩ := h
  refine fin_I O ⟨Nat.zero_le _, Nat.zero_le _⟩ (run_V (As := [vI (v8), vI (v9), vI (v10), vI (v11)]) (st := [vI (r5)]) O (mt_X5_filed (xl x) (xG x) _ _ _ _ _ _ _ h) e14 cfX5.1 q2178 q2179 q2180 q131 q2181 hy_X5_filed (Nat.le_of_ble_eq_true rfl) (Nat.le_of_ble_eq_true rfl) ⟨Nat.zero_le _, Nat.zero_le _⟩ rfl (Nat.le_of_ble_eq_true rfl) dL_law_1101) (fun r12 w13 h => ?_)
  obtain ⟨c15, h⟩ := h
  obtain ⟨c16, h⟩ := h
  refine j_icmp_eq O (tgt := 1403) dL_law_1104 (by decide) c15 c16 h (fun h => ?_) (fun h => ?_)
  · exact (J.sub [0, 1, 2, 3] rfl <| wk_L_law_1403 O hm hsc hend _ _ _ _ _ hK18 _ _ _ h)
  · refine j_iconst O dL_law_1107 ?_
    exact False.elim h
theorem wk_L_law_1109 {x : Cx} {nn : Nat} {sc : Nat → Int} {Z : State → Prop} (O : OK x "DowryBoxesLaw" cL_law 113) (hm : xn x = 4) (hsc : SCR x nn sc) (hend : LEND x Z) (K18 : Int → Nat → Nat → Wd → Prop) (x0 : Nat) (x1 : Nat) (x2 : Nat) (x3 : Int) (hK18 : ∀ (y3 : Int) (bc bs : Nat) (w : Wd), K18 y3 bc bs w → J x Z w bc bs 18 [(0, .ref (adG (xG x) (x0))), (1, .ref (adG (xG x) (x1))), (2, .ref (adG (xG x) (x2))), (3, vI (y3))] []) (bc bs : Nat) (w : Wd) (h : wp_L_law_1109 nn sc K18 x0 x1 x2 x3 bc bs w) : J x Z w bc bs 1109 [(0, .ref (adG (xG x) (x0))), (1, .ref (adG (xG x) (x1))), (2, .ref (adG (xG x) (x2))), (3, vI (x3))] [] := by
  unfold wp_L_law_1109 at h
  refine j_aload_n O 1 1 dL_law_1109 rfl rfl ?_
  refine j_aload_n O 0 0 dL_law_1110 rfl rfl ?_
  refine j_iload_n O 3 3 dL_law_1111 rfl rfl ?_
  refine j_iconst O dL_law_1112 ?_
  refine j_iadd O dL_law_1113 ?_
  refine j_scV O hsc dL_law_1114 h (fun v1 h => ?_)
  refine j_aload_n O 0 0 dL_law_1115 rfl rfl ?_
  refine j_iload_n O 3 3 dL_law_1116 rfl rfl ?_
  refine j_iconst O dL_law_1117 ?_
  refine j_iadd O dL_law_1118 ?_
  refine j_scV O hsc dL_law_1119 h (fun v2 h => ?_)
  obtain ⟨e5, h⟩ := h
  refine fin_I O ⟨Nat.zero_le _, Nat.zero_le _⟩ (run_V (As := [vI (v1), vI (v2)]) (st := []) O (mt_X0_shares (xl x) (xG x) _ _ _ _ _ h) e5 cfX0.1 q1436 q1437 q1438 q121 q1439 hy_X0_shares (Nat.le_of_ble_eq_true rfl) (Nat.le_of_ble_eq_true rfl) ⟨Nat.zero_le _, Nat.zero_le _⟩ rfl (Nat.le_of_ble_eq_true rfl) dL_law_1120) (fun r3 w4 h => ?_)
  refine j_aload_n O 2 2 dL_law_1123 rfl rfl ?_
  refine j_aload_n O 0 0 dL_law_1124 rfl rfl ?_
  refine j_iload_n O 3 3 dL_law_1125 rfl rfl ?_
  refine j_iconst O dL_law_1126 ?_
  refine j_iadd O dL_law_1127 ?_
  refine j_scV O hsc dL_law_1128 h (fun v6 h => ?_)
  refine j_aload_n O 0 0 dL_law_1129 rfl rfl ?_
  refine j_iload_n O 3 3 dL_law_1130 rfl rfl ?_
  refine j_iconst O dL_law_1131 ?_
  refine j_iadd O dL_law_1132 ?_
  refine j_scV O hsc dL_law_1133 h (fun v7 h => ?_)
  obtain ⟨e10, h⟩ := h
  refine fin_I O ⟨Nat.zero_le _, Nat.zero_le _⟩ (run_V (As := [vI (v6), vI (v7)]) (st := [vI (r3)]) O (mt_X5_shares (xl x) (xG x) _ _ _ _ _ h) e10 cfX5.1 q2183 q2184 q2185 q131 q2186 hy_X5_shares (Nat.le_of_ble_eq_true rfl) (Nat.le_of_ble_eq_true rfl) ⟨Nat.zero_le _, Nat.zero_le _⟩ rfl (Nat.le_of_ble_eq_true rfl) dL_law_1134) (fun r8 w9 h => ?_)
  obtain ⟨c11, h⟩ := h
  obtain ⟨c12, h⟩ := h
  refine j_icmp_eq O (tgt := 1403) dL_law_1137 (by decide) c11 c12 h (fun h => ?_) (fun h => ?_)
  · exact (J.sub [0, 1, 2, 3] rfl <| wk_L_law_1403 O hm hsc hend _ _ _ _ _ hK18 _ _ _ h)
  · refine j_iconst O dL_law_1140 ?_
    exact False.elim h
theorem wk_L_law_1142 {x : Cx} {nn : Nat} {sc : Nat → Int} {Z : State → Prop} (O : OK x "DowryBoxesLaw" cL_law 113) (hm : xn x = 4) (hsc : SCR x nn sc) (hend : LEND x Z) (K18 : Int → Nat → Nat → Wd → Prop) (x0 : Nat) (x1 : Nat) (x2 : Nat) (x3 : Int) (hK18 : ∀ (y3 : Int) (bc bs : Nat) (w : Wd), K18 y3 bc bs w → J x Z w bc bs 18 [(0, .ref (adG (xG x) (x0))), (1, .ref (adG (xG x) (x1))), (2, .ref (adG (xG x) (x2))), (3, vI (y3))] []) (bc bs : Nat) (w : Wd) (h : wp_L_law_1142 nn sc K18 x0 x1 x2 x3 bc bs w) : J x Z w bc bs 1142 [(0, .ref (adG (xG x) (x0))), (1, .ref (adG (xG x) (x1))), (2, .ref (adG (xG x) (x2))), (3, vI (x3))] [] := by
  unfold wp_L_law_1142 at h
  refine j_aload_n O 1 1 dL_law_1142 rfl rfl ?_
  refine j_aload_n O 0 0 dL_law_1143 rfl rfl ?_
  refine j_iload_n O 3 3 dL_law_1144 rfl rfl ?_
  refine j_iconst O dL_law_1145 ?_
  refine j_iadd O dL_law_1146 ?_
  refine j_scV O hsc dL_law_1147 h (fun v1 h => ?_)
  refine j_aload_n O 0 0 dL_law_1148 rfl rfl ?_
  refine j_iload_n O 3 3 dL_law_1149 rfl rfl ?_
  refine j_iconst O dL_law_1150 ?_
  refine j_iadd O dL_law_1151 ?_
  refine j_scV O hsc dL_law_1152 h (fun v2 h => ?_)
  obtain ⟨e5, h⟩ := h
  refine fin_I O ⟨Nat.zero_le _, Nat.zero_le _⟩ (run_V (As := [vI (v1), vI (v2)]) (st := []) O (mt_X0_again (xl x) (xG x) _ _ _ _ _ h) e5 cfX0.1 q1445 q1446 q1447 q121 q1448 hy_X0_again (Nat.le_of_ble_eq_true rfl) (Nat.le_of_ble_eq_true rfl) ⟨Nat.zero_le _, Nat.zero_le _⟩ rfl (Nat.le_of_ble_eq_true rfl) dL_law_1153) (fun r3 w4 h => ?_)
  refine j_aload_n O 2 2 dL_law_1156 rfl rfl ?_
  refine j_aload_n O 0 0 dL_law_1157 rfl rfl ?_
  refine j_iload_n O 3 3 dL_law_1158 rfl rfl ?_
  refine j_iconst O dL_law_1159 ?_
  refine j_iadd O dL_law_1160 ?_
  refine j_scV O hsc dL_law_1161 h (fun v6 h => ?_)
  refine j_aload_n O 0 0 dL_law_1162 rfl rfl ?_
  refine j_iload_n O 3 3 dL_law_1163 rfl rfl ?_
  refine j_iconst O dL_law_1164 ?_
  refine j_iadd O dL_law_1165 ?_
  refine j_scV O hsc dL_law_1166 h (fun v7 h => ?_)
  obtain ⟨e10, h⟩ := h
  refine fin_I O ⟨Nat.zero_le _, Nat.zero_le _⟩ (run_V (As := [vI (v6), vI (v7)]) (st := [vI (r3)]) O (mt_X5_again (xl x) (xG x) _ _ _ _ _ h) e10 cfX5.1 q2192 q2193 q2194 q131 q2195 hy_X5_again (Nat.le_of_ble_eq_true rfl) (Nat.le_of_ble_eq_true rfl) ⟨Nat.zero_le _, Nat.zero_le _⟩ rfl (Nat.le_of_ble_eq_true rfl) dL_law_1167) (fun r8 w9 h => ?_)
  obtain ⟨c11, h⟩ := h
  obtain ⟨c12, h⟩ := h
  refine j_icmp_eq O (tgt := 1403) dL_law_1170 (by decide) c11 c12 h (fun h => ?_) (fun h => ?_)
  · exact (J.sub [0, 1, 2, 3] rfl <| wk_L_law_1403 O hm hsc hend _ _ _ _ _ hK18 _ _ _ h)
  · refine j_iconst O dL_law_1173 ?_
    exact False.elim h
theorem wk_L_law_1175 {x : Cx} {nn : Nat} {sc : Nat → Int} {Z : State → Prop} (O : OK x "DowryBoxesLaw" cL_law 113) (hm : xn x = 4) (hsc : SCR x nn sc) (hend : LEND x Z) (K18 : Int → Nat → Nat → Wd → Prop) (x0 : Nat) (x1 : Nat) (x2 : Nat) (x3 : Int) (hK18 : ∀ (y3 : Int) (bc bs : Nat) (w : Wd), K18 y3 bc bs w → J x Z w bc bs 18 [(0, .ref (adG (xG x) (x0))), (1, .ref (adG (xG x) (x1))), (2, .ref (adG (xG x) (x2))), (3, vI (y3))] []) (bc bs : Nat) (w : Wd) (h : wp_L_law_1175 nn sc K18 x0 x1 x2 x3 bc bs w) : J x Z w bc bs 1175 [(0, .ref (adG (xG x) (x0))), (1, .ref (adG (xG x) (x1))), (2, .ref (adG (xG x) (x2))), (3, vI (x3))] [] := by
  unfold wp_L_law_1175 at h
  refine j_aload_n O 1 1 dL_law_1175 rfl rfl ?_
  refine j_aload_n O 0 0 dL_law_1176 rfl rfl ?_
  refine j_iload_n O 3 3 dL_law_1177 rfl rfl ?_
  refine j_iconst O dL_law_1178 ?_
  refine j_iadd O dL_law_1179 ?_
  refine j_scV O hsc dL_law_1180 h (fun v1 h => ?_)
  obtain ⟨e4, h⟩ := h
  refine fin_I O ⟨Nat.zero_le _, Nat.zero_le _⟩ (run_V (As := [vI (v1)]) (st := []) O (mt_X0_ends (xl x) (xG x) _ _ _ _ h) e4 cfX0.1 q1449 q1450 q1451 q121 q1452 hy_X0_ends (Nat.le_of_ble_eq_true rfl) (Nat.le_of_ble_eq_true rfl) ⟨Nat.zero_le _, Nat.zero_le _⟩ rfl (Nat.le_of_ble_eq_true rfl) dL_law_1181) (fun r2 w3 h => ?_)
  refine j_aload_n O 2 2 dL_law_1184 rfl rfl ?_
  refine j_aload_n O 0 0 dL_law_1185 rfl rfl ?_
  refine j_iload_n O 3 3 dL_law_1186 rfl rfl ?_
  refine j_iconst O dL_law_1187 ?_
  refine j_iadd O dL_law_1188 ?_
  refine j_scV O hsc dL_law_1189 h (fun v5 h => ?_)
  obtain ⟨e8, h⟩ := h
  refine fin_I O ⟨Nat.zero_le _, Nat.zero_le _⟩ (run_V (As := [vI (v5)]) (st := [vI (r2)]) O (mt_X5_ends (xl x) (xG x) _ _ _ _ h) e8 cfX5.1 q2196 q2197 q2198 q131 q2199 hy_X5_ends (Nat.le_of_ble_eq_true rfl) (Nat.le_of_ble_eq_true rfl) ⟨Nat.zero_le _, Nat.zero_le _⟩ rfl (Nat.le_of_ble_eq_true rfl) dL_law_1190) (fun r6 w7 h => ?_)
  obtain ⟨c9, h⟩ := h
  obtain ⟨c10, h⟩ := h
  refine j_icmp_eq O (tgt := 1403) dL_law_1193 (by decide) c9 c10 h (fun h => ?_) (fun h => ?_)
  · exact (J.sub [0, 1, 2, 3] rfl <| wk_L_law_1403 O hm hsc hend _ _ _ _ _ hK18 _ _ _ h)
  · refine j_iconst O dL_law_1196 ?_
    exact False.elim h
theorem wk_L_law_1198 {x : Cx} {nn : Nat} {sc : Nat → Int} {Z : State → Prop} (O : OK x "DowryBoxesLaw" cL_law 113) (hm : xn x = 4) (hsc : SCR x nn sc) (hend : LEND x Z) (K18 : Int → Nat → Nat → Wd → Prop) (x0 : Nat) (x1 : Nat) (x2 : Nat) (x3 : Int) (hK18 : ∀ (y3 : Int) (bc bs : Nat) (w : Wd), K18 y3 bc bs w → J x Z w bc bs 18 [(0, .ref (adG (xG x) (x0))), (1, .ref (adG (xG x) (x1))), (2, .ref (adG (xG x) (x2))), (3, vI (y3))] []) (bc bs : Nat) (w : Wd) (h : wp_L_law_1198 nn sc K18 x0 x1 x2 x3 bc bs w) : J x Z w bc bs 1198 [(0, .ref (adG (xG x) (x0))), (1, .ref (adG (xG x) (x1))), (2, .ref (adG (xG x) (x2))), (3, vI (x3))] [] := by
  unfold wp_L_law_1198 at h
  refine j_aload_n O 1 1 dL_law_1198 rfl rfl ?_
  refine j_aload_n O 0 0 dL_law_1199 rfl rfl ?_
  refine j_iload_n O 3 3 dL_law_1200 rfl rfl ?_
  refine j_iconst O dL_law_1201 ?_
  refine j_iadd O dL_law_1202 ?_
  refine j_scV O hsc dL_law_1203 h (fun v1 h => ?_)
  refine j_aload_n O 0 0 dL_law_1204 rfl rfl ?_
  refine j_iload_n O 3 3 dL_law_1205 rfl rfl ?_
  refine j_iconst O dL_law_1206 ?_
  refine j_iadd O dL_law_1207 ?_
  refine j_scV O hsc dL_law_1208 h (fun v2 h => ?_)
  obtain ⟨e5, h⟩ := h
  refine fin_L O ⟨Nat.zero_le _, Nat.zero_le _⟩ (run_V (As := [vI (v1), vI (v2)]) (st := []) O (mt_X0_stands (xl x) (xG x) _ _ _ _ _ h) e5 cfX0.1 q1453 q1454 q1455 q121 q1456 hy_X0_stands (Nat.le_of_ble_eq_true rfl) (Nat.le_of_ble_eq_true rfl) ⟨Nat.zero_le _, Nat.zero_le _⟩ rfl (Nat.le_of_ble_eq_true rfl) dL_law_1209) (fun r3 w4 h => ?_)
  refine j_aload_n O 2 2 dL_law_1212 rfl rfl ?_
  refine j_aload_n O 0 0 dL_law_1213 rfl rfl ?_
  refine j_iload_n O 3 3 dL_law_1214 rfl rfl ?_
  refine j_iconst O dL_law_1215 ?_
  refine j_iadd O dL_law_1216 ?_
  refine j_scV O hsc dL_law_1217 h (fun v6 h => ?_)
  refine j_aload_n O 0 0 dL_law_1218 rfl rfl ?_
  refine j_iload_n O 3 3 dL_law_1219 rfl rfl ?_
  refine j_iconst O dL_law_1220 ?_
  refine j_iadd O dL_law_1221 ?_
  refine j_scV O hsc dL_law_1222 h (fun v7 h => ?_)
  obtain ⟨e10, h⟩ := h
  refine fin_L O ⟨Nat.zero_le _, Nat.zero_le _⟩ (run_V (As := [vI (v6), vI (v7)]) (st := [vL (r3)]) O (mt_X5_stands (xl x) (xG x) _ _ _ _ _ h) e10 cfX5.1 q2200 q2201 q2202 q131 q2203 hy_X5_stands (Nat.le_of_ble_eq_true rfl) (Nat.le_of_ble_eq_true rfl) ⟨Nat.zero_le _, Nat.zero_le _⟩ rfl (Nat.le_of_ble_eq_true rfl) dL_law_1223) (fun r8 w9 h => ?_)
  obtain ⟨c11, h⟩ := h
  obtain ⟨c12, h⟩ := h
  refine j_lcif_eq O (tgt := 1403) dL_law_1226 rfl dL_law_1227 (by decide) c11 c12 h (fun h => ?_) (fun h => ?_)
  · exact (J.sub [0, 1, 2, 3] rfl <| wk_L_law_1403 O hm hsc hend _ _ _ _ _ hK18 _ _ _ h)
  · refine j_iconst O dL_law_1230 ?_
    exact False.elim h
theorem wk_L_law_1232 {x : Cx} {nn : Nat} {sc : Nat → Int} {Z : State → Prop} (O : OK x "DowryBoxesLaw" cL_law 113) (hm : xn x = 4) (hsc : SCR x nn sc) (hend : LEND x Z) (K18 : Int → Nat → Nat → Wd → Prop) (x0 : Nat) (x1 : Nat) (x2 : Nat) (x3 : Int) (hK18 : ∀ (y3 : Int) (bc bs : Nat) (w : Wd), K18 y3 bc bs w → J x Z w bc bs 18 [(0, .ref (adG (xG x) (x0))), (1, .ref (adG (xG x) (x1))), (2, .ref (adG (xG x) (x2))), (3, vI (y3))] []) (bc bs : Nat) (w : Wd) (h : wp_L_law_1232 nn sc K18 x0 x1 x2 x3 bc bs w) : J x Z w bc bs 1232 [(0, .ref (adG (xG x) (x0))), (1, .ref (adG (xG x) (x1))), (2, .ref (adG (xG x) (x2))), (3, vI (x3))] [] := by
  unfold wp_L_law_1232 at h
  refine j_aload_n O 1 1 dL_law_1232 rfl rfl ?_
  refine j_aload_n O 0 0 dL_law_1233 rfl rfl ?_
  refine j_iload_n O 3 3 dL_law_1234 rfl rfl ?_
  refine j_iconst O dL_law_1235 ?_
  refine j_iadd O dL_law_1236 ?_
  refine j_scV O hsc dL_law_1237 h (fun v1 h => ?_)
  obtain ⟨e4, h⟩ := h
  refine fin_I O ⟨Nat.zero_le _, Nat.zero_le _⟩ (run_V (As := [vI (v1)]) (st := []) O (mt_X0_compare (xl x) (xG x) _ _ _ _ h) e4 cfX0.1 q1459 q1460 q1461 q121 q1462 hy_X0_compare (Nat.le_of_ble_eq_true rfl) (Nat.le_of_ble_eq_true rfl) ⟨Nat.zero_le _, Nat.zero_le _⟩ rfl (Nat.le_of_ble_eq_true rfl) dL_law_1238) (fun r2 w3 h => ?_)
  refine j_aload_n O 2 2 dL_law_1241 rfl rfl ?_
  refine j_aload_n O 0 0 dL_law_1242 rfl rfl ?_
  refine j_iload_n O 3 3 dL_law_1243 rfl rfl ?_
  refine j_iconst O dL_law_1244 ?_
  refine j_iadd O dL_law_1245 ?_
  refine j_scV O hsc dL_law_1246 h (fun v5 h => ?_)
  obtain ⟨e8, h⟩ := h
  refine fin_I O ⟨Nat.zero_le _, Nat.zero_le _⟩ (run_V (As := [vI (v5)]) (st := [vI (r2)]) O (mt_X5_compare (xl x) (xG x) _ _ _ _ h) e8 cfX5.1 q2205 q2206 q2207 q131 q2208 hy_X5_compare (Nat.le_of_ble_eq_true rfl) (Nat.le_of_ble_eq_true rfl) ⟨Nat.zero_le _, Nat.zero_le _⟩ rfl (Nat.le_of_ble_eq_true rfl) dL_law_1247) (fun r6 w7 h => ?_)
  obtain ⟨c9, h⟩ := h
  obtain ⟨c10, h⟩ := h
  refine j_icmp_eq O (tgt := 1403) dL_law_1250 (by decide) c9 c10 h (fun h => ?_) (fun h => ?_)
  · exact (J.sub [0, 1, 2, 3] rfl <| wk_L_law_1403 O hm hsc hend _ _ _ _ _ hK18 _ _ _ h)
  · refine j_iconst O dL_law_1253 ?_
    exact False.elim h
theorem wk_L_law_1255 {x : Cx} {nn : Nat} {sc : Nat → Int} {Z : State → Prop} (O : OK x "DowryBoxesLaw" cL_law 113) (hm : xn x = 4) (hsc : SCR x nn sc) (hend : LEND x Z) (K18 : Int → Nat → Nat → Wd → Prop) (x0 : Nat) (x1 : Nat) (x2 : Nat) (x3 : Int) (hK18 : ∀ (y3 : Int) (bc bs : Nat) (w : Wd), K18 y3 bc bs w → J x Z w bc bs 18 [(0, .ref (adG (xG x) (x0))), (1, .ref (adG (xG x) (x1))), (2, .ref (adG (xG x) (x2))), (3, vI (y3))] []) (bc bs : Nat) (w : Wd) (h : wp_L_law_1255 nn sc K18 x0 x1 x2 x3 bc bs w) : J x Z w bc bs 1255 [(0, .ref (adG (xG x) (x0))), (1, .ref (adG (xG x) (x1))), (2, .ref (adG (xG x) (x2))), (3, vI (x3))] [] := by
  unfold wp_L_law_1255 at h
  refine j_aload_n O 1 1 dL_law_1255 rfl rfl ?_
  refine j_aload_n O 0 0 dL_law_1256 rfl rfl ?_
  refine j_iload_n O 3 3 dL_law_1257 rfl rfl ?_
  refine j_iconst O dL_law_1258 ?_
  refine j_iadd O dL_law_1259 ?_
  refine j_scV O hsc dL_law_1260 h (fun v1 h => ?_)
  refine j_aload_n O 0 0 dL_law_1261 rfl rfl ?_
  refine j_iload_n O 3 3 dL_law_1262 rfl rfl ?_
  refine j_iconst O dL_law_1263 ?_
  refine j_iadd O dL_law_1264 ?_
  refine j_scV O hsc dL_law_1265 h (fun v2 h => ?_)
  obtain ⟨e5, h⟩ := h
  refine fin_I O ⟨Nat.zero_le _, Nat.zero_le _⟩ (run_V (As := [vI (v1), vI (v2)]) (st := []) O (mt_X0_generations (xl x) (xG x) _ _ _ _ _ h) e5 cfX0.1 q1515 q1516 q1517 q121 q1518 hy_X0_generations (Nat.le_of_ble_eq_true rfl) (Nat.le_of_ble_eq_true rfl) ⟨Nat.zero_le _, Nat.zero_le _⟩ rfl (Nat.le_of_ble_eq_true rfl) dL_law_1266) (fun r3 w4 h => ?_)
  refine j_aload_n O 2 2 dL_law_1269 rfl rfl ?_
  refine j_aload_n O 0 0 dL_law_1270 rfl rfl ?_
  refine j_iload_n O 3 3 dL_law_1271 rfl rfl ?_
  refine j_iconst O dL_law_1272 ?_
  refine j_iadd O dL_law_1273 ?_
  refine j_scV O hsc dL_law_1274 h (fun v6 h => ?_)
  refine j_aload_n O 0 0 dL_law_1275 rfl rfl ?_
  refine j_iload_n O 3 3 dL_law_1276 rfl rfl ?_
  refine j_iconst O dL_law_1277 ?_
  refine j_iadd O dL_law_1278 ?_
  refine j_scV O hsc dL_law_1279 h (fun v7 h => ?_)
  obtain ⟨e10, h⟩ := h
  refine fin_I O ⟨Nat.zero_le _, Nat.zero_le _⟩ (run_V (As := [vI (v6), vI (v7)]) (st := [vI (r3)]) O (mt_X5_generations (xl x) (xG x) _ _ _ _ _ h) e10 cfX5.1 q2250 q2251 q2252 q131 q2253 hy_X5_generations (Nat.le_of_ble_eq_true rfl) (Nat.le_of_ble_eq_true rfl) ⟨Nat.zero_le _, Nat.zero_le _⟩ rfl (Nat.le_of_ble_eq_true rfl) dL_law_1280) (fun r8 w9 h => ?_)
  obtain ⟨c11, h⟩ := h
  obtain ⟨c12, h⟩ := h
  refine j_icmp_eq O (tgt := 1403) dL_law_1283 (by decide) c11 c12 h (fun h => ?_) (fun h => ?_)
  · exact (J.sub [0, 1, 2, 3] rfl <| wk_L_law_1403 O hm hsc hend _ _ _ _ _ hK18 _ _ _ h)
  · refine j_iconst O dL_law_1286 ?_
    exact False.elim h
theorem wk_L_law_1288 {x : Cx} {nn : Nat} {sc : Nat → Int} {Z : State → Prop} (O : OK x "DowryBoxesLaw" cL_law 113) (hm : xn x = 4) (hsc : SCR x nn sc) (hend : LEND x Z) (K18 : Int → Nat → Nat → Wd → Prop) (x0 : Nat) (x1 : Nat) (x2 : Nat) (x3 : Int) (hK18 : ∀ (y3 : Int) (bc bs : Nat) (w : Wd), K18 y3 bc bs w → J x Z w bc bs 18 [(0, .ref (adG (xG x) (x0))), (1, .ref (adG (xG x) (x1))), (2, .ref (adG (xG x) (x2))), (3, vI (y3))] []) (bc bs : Nat) (w : Wd) (h : wp_L_law_1288 nn sc K18 x0 x1 x2 x3 bc bs w) : J x Z w bc bs 1288 [(0, .ref (adG (xG x) (x0))), (1, .ref (adG (xG x) (x1))), (2, .ref (adG (xG x) (x2))), (3, vI (x3))] [] := by
  unfold wp_L_law_1288 at h
  refine j_aload_n O 1 1 dL_law_1288 rfl rfl ?_
  refine j_aload_n O 0 0 dL_law_1289 rfl rfl ?_
  refine j_iload_n O 3 3 dL_law_1290 rfl rfl ?_
  refine j_iconst O dL_law_1291 ?_
  refine j_iadd O dL_law_1292 ?_
  refine j_scV O hsc dL_law_1293 h (fun v1 h => ?_)
  refine j_aload_n O 0 0 dL_law_1294 rfl rfl ?_
  refine j_iload_n O 3 3 dL_law_1295 rfl rfl ?_
  refine j_iconst O dL_law_1296 ?_
  refine j_iadd O dL_law_1297 ?_
  refine j_scV O hsc dL_law_1298 h (fun v2 h => ?_)
  obtain ⟨e5, h⟩ := h
  refine fin_I O ⟨Nat.zero_le _, Nat.zero_le _⟩ (run_V (As := [vI (v1), vI (v2)]) (st := []) O (mt_X0_drawn (xl x) (xG x) _ _ _ _ _ h) e5 cfX0.1 q1526 q1527 q1528 q121 q1529 hy_X0_drawn (Nat.le_of_ble_eq_true rfl) (Nat.le_of_ble_eq_true rfl) ⟨Nat.zero_le _, Nat.zero_le _⟩ rfl (Nat.le_of_ble_eq_true rfl) dL_law_1299) (fun r3 w4 h => ?_)
  refine j_aload_n O 2 2 dL_law_1302 rfl rfl ?_
  refine j_aload_n O 0 0 dL_law_1303 rfl rfl ?_
  refine j_iload_n O 3 3 dL_law_1304 rfl rfl ?_
  refine j_iconst O dL_law_1305 ?_
  refine j_iadd O dL_law_1306 ?_
  refine j_scV O hsc dL_law_1307 h (fun v6 h => ?_)
  refine j_aload_n O 0 0 dL_law_1308 rfl rfl ?_
  refine j_iload_n O 3 3 dL_law_1309 rfl rfl ?_
  refine j_iconst O dL_law_1310 ?_
  refine j_iadd O dL_law_1311 ?_
  refine j_scV O hsc dL_law_1312 h (fun v7 h => ?_)
  obtain ⟨e10, h⟩ := h
  refine fin_I O ⟨Nat.zero_le _, Nat.zero_le _⟩ (run_V (As := [vI (v6), vI (v7)]) (st := [vI (r3)]) O (mt_X5_drawn (xl x) (xG x) _ _ _ _ _ h) e10 cfX5.1 q2261 q2262 q2263 q131 q2264 hy_X5_drawn (Nat.le_of_ble_eq_true rfl) (Nat.le_of_ble_eq_true rfl) ⟨Nat.zero_le _, Nat.zero_le _⟩ rfl (Nat.le_of_ble_eq_true rfl) dL_law_1313) (fun r8 w9 h => ?_)
  obtain ⟨c11, h⟩ := h
  obtain ⟨c12, h⟩ := h
  refine j_icmp_eq O (tgt := 1403) dL_law_1316 (by decide) c11 c12 h (fun h => ?_) (fun h => ?_)
  · exact (J.sub [0, 1, 2, 3] rfl <| wk_L_law_1403 O hm hsc hend _ _ _ _ _ hK18 _ _ _ h)
  · refine j_iconst O dL_law_1319 ?_
    exact False.elim h
theorem wk_L_law_1321 {x : Cx} {nn : Nat} {sc : Nat → Int} {Z : State → Prop} (O : OK x "DowryBoxesLaw" cL_law 113) (hm : xn x = 4) (hsc : SCR x nn sc) (hend : LEND x Z) (K18 : Int → Nat → Nat → Wd → Prop) (x0 : Nat) (x1 : Nat) (x2 : Nat) (x3 : Int) (hK18 : ∀ (y3 : Int) (bc bs : Nat) (w : Wd), K18 y3 bc bs w → J x Z w bc bs 18 [(0, .ref (adG (xG x) (x0))), (1, .ref (adG (xG x) (x1))), (2, .ref (adG (xG x) (x2))), (3, vI (y3))] []) (bc bs : Nat) (w : Wd) (h : wp_L_law_1321 nn sc K18 x0 x1 x2 x3 bc bs w) : J x Z w bc bs 1321 [(0, .ref (adG (xG x) (x0))), (1, .ref (adG (xG x) (x1))), (2, .ref (adG (xG x) (x2))), (3, vI (x3))] [] := by
  unfold wp_L_law_1321 at h
  refine j_aload_n O 1 1 dL_law_1321 rfl rfl ?_
  refine j_aload_n O 0 0 dL_law_1322 rfl rfl ?_
  refine j_iload_n O 3 3 dL_law_1323 rfl rfl ?_
  refine j_iconst O dL_law_1324 ?_
  refine j_iadd O dL_law_1325 ?_
  refine j_scV O hsc dL_law_1326 h (fun v1 h => ?_)
  obtain ⟨e6, h⟩ := h
  obtain ⟨mc4, ms5, hb7, h⟩ := h
  refine fin_I O hb7 (run_V (As := [vI (v1)]) (st := []) O (mt_X0_image (xl x) (xG x) _ _ _ _ _ _ h) e6 cfX0.1 q461 q462 q463 q121 q464 hy_X0_image (Nat.le_of_ble_eq_true rfl) (Nat.le_of_ble_eq_true rfl) hb7 rfl (Nat.le_of_ble_eq_true rfl) dL_law_1327) (fun r2 w3 h => ?_)
  refine j_aload_n O 2 2 dL_law_1330 rfl rfl ?_
  refine j_aload_n O 0 0 dL_law_1331 rfl rfl ?_
  refine j_iload_n O 3 3 dL_law_1332 rfl rfl ?_
  refine j_iconst O dL_law_1333 ?_
  refine j_iadd O dL_law_1334 ?_
  refine j_scV O hsc dL_law_1335 h (fun v8 h => ?_)
  obtain ⟨e11, h⟩ := h
  refine fin_I O ⟨Nat.zero_le _, Nat.zero_le _⟩ (run_V (As := [vI (v8)]) (st := [vI (r2)]) O (mt_X5_image (xl x) (xG x) _ _ _ _ h) e11 cfX5.1 q1768 q1769 q1770 q131 q1771 hy_X5_image (Nat.le_of_ble_eq_true rfl) (Nat.le_of_ble_eq_true rfl) ⟨Nat.zero_le _, Nat.zero_le _⟩ rfl (Nat.le_of_ble_eq_true rfl) dL_law_1336) (fun r9 w10 h => ?_)
  obtain ⟨c12, h⟩ := h
  obtain ⟨c13, h⟩ := h
  refine j_icmp_eq O (tgt := 1403) dL_law_1339 (by decide) c12 c13 h (fun h => ?_) (fun h => ?_)
  · exact (J.sub [0, 1, 2, 3] rfl <| wk_L_law_1403 O hm hsc hend _ _ _ _ _ hK18 _ _ _ h)
  · refine j_iconst O dL_law_1342 ?_
    exact False.elim h
theorem wk_L_law_1344 {x : Cx} {nn : Nat} {sc : Nat → Int} {Z : State → Prop} (O : OK x "DowryBoxesLaw" cL_law 113) (hm : xn x = 4) (hsc : SCR x nn sc) (hend : LEND x Z) (K18 : Int → Nat → Nat → Wd → Prop) (x0 : Nat) (x1 : Nat) (x2 : Nat) (x3 : Int) (hK18 : ∀ (y3 : Int) (bc bs : Nat) (w : Wd), K18 y3 bc bs w → J x Z w bc bs 18 [(0, .ref (adG (xG x) (x0))), (1, .ref (adG (xG x) (x1))), (2, .ref (adG (xG x) (x2))), (3, vI (y3))] []) (bc bs : Nat) (w : Wd) (h : wp_L_law_1344 nn sc K18 x0 x1 x2 x3 bc bs w) : J x Z w bc bs 1344 [(0, .ref (adG (xG x) (x0))), (1, .ref (adG (xG x) (x1))), (2, .ref (adG (xG x) (x2))), (3, vI (x3))] [] := by
  unfold wp_L_law_1344 at h
  refine j_aload_n O 1 1 dL_law_1344 rfl rfl ?_
  refine j_aload_n O 0 0 dL_law_1345 rfl rfl ?_
  refine j_iload_n O 3 3 dL_law_1346 rfl rfl ?_
  refine j_iconst O dL_law_1347 ?_
  refine j_iadd O dL_law_1348 ?_
  refine j_scV O hsc dL_law_1349 h (fun v1 h => ?_)
  obtain ⟨e6, h⟩ := h
  obtain ⟨mc4, ms5, hb7, h⟩ := h
  refine fin_I O hb7 (run_V (As := [vI (v1)]) (st := []) O (mt_X0_back (xl x) (xG x) _ _ _ _ _ _ h) e6 cfX0.1 q562 q563 q564 q121 q565 hy_X0_back (Nat.le_of_ble_eq_true rfl) (Nat.le_of_ble_eq_true rfl) hb7 rfl (Nat.le_of_ble_eq_true rfl) dL_law_1350) (fun r2 w3 h => ?_)
  refine j_aload_n O 2 2 dL_law_1353 rfl rfl ?_
  refine j_aload_n O 0 0 dL_law_1354 rfl rfl ?_
  refine j_iload_n O 3 3 dL_law_1355 rfl rfl ?_
  refine j_iconst O dL_law_1356 ?_
  refine j_iadd O dL_law_1357 ?_
  refine j_scV O hsc dL_law_1358 h (fun v8 h => ?_)
  obtain ⟨e11, h⟩ := h
  refine fin_I O ⟨Nat.zero_le _, Nat.zero_le _⟩ (run_V (As := [vI (v8)]) (st := [vI (r2)]) O (mt_X5_back (xl x) (xG x) _ _ _ _ h) e11 cfX5.1 q1775 q1776 q1777 q131 q1778 hy_X5_back (Nat.le_of_ble_eq_true rfl) (Nat.le_of_ble_eq_true rfl) ⟨Nat.zero_le _, Nat.zero_le _⟩ rfl (Nat.le_of_ble_eq_true rfl) dL_law_1359) (fun r9 w10 h => ?_)
  obtain ⟨c12, h⟩ := h
  obtain ⟨c13, h⟩ := h
  refine j_icmp_eq O (tgt := 1403) dL_law_1362 (by decide) c12 c13 h (fun h => ?_) (fun h => ?_)
  · exact (J.sub [0, 1, 2, 3] rfl <| wk_L_law_1403 O hm hsc hend _ _ _ _ _ hK18 _ _ _ h)
  · refine j_iconst O dL_law_1365 ?_
    exact False.elim h
theorem wk_L_law_1367 {x : Cx} {nn : Nat} {sc : Nat → Int} {Z : State → Prop} (O : OK x "DowryBoxesLaw" cL_law 113) (hm : xn x = 4) (hsc : SCR x nn sc) (hend : LEND x Z) (K18 : Int → Nat → Nat → Wd → Prop) (x0 : Nat) (x1 : Nat) (x2 : Nat) (x3 : Int) (hK18 : ∀ (y3 : Int) (bc bs : Nat) (w : Wd), K18 y3 bc bs w → J x Z w bc bs 18 [(0, .ref (adG (xG x) (x0))), (1, .ref (adG (xG x) (x1))), (2, .ref (adG (xG x) (x2))), (3, vI (y3))] []) (bc bs : Nat) (w : Wd) (h : wp_L_law_1367 nn sc K18 x0 x1 x2 x3 bc bs w) : J x Z w bc bs 1367 [(0, .ref (adG (xG x) (x0))), (1, .ref (adG (xG x) (x1))), (2, .ref (adG (xG x) (x2))), (3, vI (x3))] [] := by
  unfold wp_L_law_1367 at h
  refine j_aload_n O 1 1 dL_law_1367 rfl rfl ?_
  refine j_aload_n O 0 0 dL_law_1368 rfl rfl ?_
  refine j_iload_n O 3 3 dL_law_1369 rfl rfl ?_
  refine j_iconst O dL_law_1370 ?_
  refine j_iadd O dL_law_1371 ?_
  refine j_scV O hsc dL_law_1372 h (fun v1 h => ?_)
  obtain ⟨e4, h⟩ := h
  refine fin_I O ⟨Nat.zero_le _, Nat.zero_le _⟩ (run_V (As := [vI (v1)]) (st := []) O (mt_X0_count (xl x) (xG x) _ _ _ _ h) e4 cfX0.1 q1530 q1531 q1532 q121 q1533 hy_X0_count (Nat.le_of_ble_eq_true rfl) (Nat.le_of_ble_eq_true rfl) ⟨Nat.zero_le _, Nat.zero_le _⟩ rfl (Nat.le_of_ble_eq_true rfl) dL_law_1373) (fun r2 w3 h => ?_)
  refine j_aload_n O 2 2 dL_law_1376 rfl rfl ?_
  refine j_aload_n O 0 0 dL_law_1377 rfl rfl ?_
  refine j_iload_n O 3 3 dL_law_1378 rfl rfl ?_
  refine j_iconst O dL_law_1379 ?_
  refine j_iadd O dL_law_1380 ?_
  refine j_scV O hsc dL_law_1381 h (fun v5 h => ?_)
  obtain ⟨e8, h⟩ := h
  refine fin_I O ⟨Nat.zero_le _, Nat.zero_le _⟩ (run_V (As := [vI (v5)]) (st := [vI (r2)]) O (mt_X5_count (xl x) (xG x) _ _ _ _ h) e8 cfX5.1 q2265 q2266 q2267 q131 q2268 hy_X5_count (Nat.le_of_ble_eq_true rfl) (Nat.le_of_ble_eq_true rfl) ⟨Nat.zero_le _, Nat.zero_le _⟩ rfl (Nat.le_of_ble_eq_true rfl) dL_law_1382) (fun r6 w7 h => ?_)
  obtain ⟨c9, h⟩ := h
  obtain ⟨c10, h⟩ := h
  refine j_icmp_eq O (tgt := 1403) dL_law_1385 (by decide) c9 c10 h (fun h => ?_) (fun h => ?_)
  · exact (J.sub [0, 1, 2, 3] rfl <| wk_L_law_1403 O hm hsc hend _ _ _ _ _ hK18 _ _ _ h)
  · refine j_iconst O dL_law_1388 ?_
    exact False.elim h
theorem wk_L_law_1390 {x : Cx} {nn : Nat} {sc : Nat → Int} {Z : State → Prop} (O : OK x "DowryBoxesLaw" cL_law 113) (hm : xn x = 4) (hsc : SCR x nn sc) (hend : LEND x Z) (K18 : Int → Nat → Nat → Wd → Prop) (x0 : Nat) (x1 : Nat) (x2 : Nat) (x3 : Int) (hK18 : ∀ (y3 : Int) (bc bs : Nat) (w : Wd), K18 y3 bc bs w → J x Z w bc bs 18 [(0, .ref (adG (xG x) (x0))), (1, .ref (adG (xG x) (x1))), (2, .ref (adG (xG x) (x2))), (3, vI (y3))] []) (bc bs : Nat) (w : Wd) (h : wp_L_law_1390 nn sc K18 x0 x1 x2 x3 bc bs w) : J x Z w bc bs 1390 [(0, .ref (adG (xG x) (x0))), (1, .ref (adG (xG x) (x1))), (2, .ref (adG (xG x) (x2))), (3, vI (x3))] [] := by
  unfold wp_L_law_1390 at h
  refine j_aload_n O 1 1 dL_law_1390 rfl rfl ?_
  obtain ⟨e3, h⟩ := h
  refine fin_I O ⟨Nat.zero_le _, Nat.zero_le _⟩ (run_V (As := []) (st := []) O (mt_X0_status (xl x) (xG x) _ _ _ h) e3 cfX0.1 q1534 q1535 q1536 q121 q1537 hy_X0_status (Nat.le_of_ble_eq_true rfl) (Nat.le_of_ble_eq_true rfl) ⟨Nat.zero_le _, Nat.zero_le _⟩ rfl (Nat.le_of_ble_eq_true rfl) dL_law_1391) (fun r1 w2 h => ?_)
  refine j_aload_n O 2 2 dL_law_1394 rfl rfl ?_
  obtain ⟨e6, h⟩ := h
  refine fin_I O ⟨Nat.zero_le _, Nat.zero_le _⟩ (run_V (As := []) (st := [vI (r1)]) O (mt_X5_status (xl x) (xG x) _ _ _ h) e6 cfX5.1 q2271 q2272 q2273 q131 q2274 hy_X5_status (Nat.le_of_ble_eq_true rfl) (Nat.le_of_ble_eq_true rfl) ⟨Nat.zero_le _, Nat.zero_le _⟩ rfl (Nat.le_of_ble_eq_true rfl) dL_law_1395) (fun r4 w5 h => ?_)
  obtain ⟨c7, h⟩ := h
  obtain ⟨c8, h⟩ := h
  refine j_icmp_eq O (tgt := 1403) dL_law_1398 (by decide) c7 c8 h (fun h => ?_) (fun h => ?_)
  · exact (J.sub [0, 1, 2, 3] rfl <| wk_L_law_1403 O hm hsc hend _ _ _ _ _ hK18 _ _ _ h)
  · refine j_iconst O dL_law_1401 ?_
    exact False.elim h
theorem wk_L_law_18 {x : Cx} {nn : Nat} {sc : Nat → Int} {Z : State → Prop} (O : OK x "DowryBoxesLaw" cL_law 113) (hm : xn x = 4) (hsc : SCR x nn sc) (hend : LEND x Z) (x0 : Nat) (x1 : Nat) (x2 : Nat) : ∀ (n : Nat) (x3 : Int) (bc bs : Nat) (w : Wd), wp_L_law_18 nn sc x0 x1 x2 n x3 bc bs w → J x Z w bc bs 18 [(0, .ref (adG (xG x) (x0))), (1, .ref (adG (xG x) (x1))), (2, .ref (adG (xG x) (x2))), (3, vI (x3))] [] := by
  intro n
  induction n with
  | zero => intro x3 bc bs w h; exact False.elim h
  | succ n ih =>
    intro x3 bc bs w h
    rw [wp_L_law_18] at h
    refine j_iload_n O 3 3 dL_law_18 rfl rfl ?_
    refine j_aload_n O 0 0 dL_law_19 rfl rfl ?_
    refine j_scN O hsc dL_law_20 h (fun v1 h => ?_)
    refine j_bipush (m := 6) O dL_law_21 bi_6 ?_
    refine j_isub O dL_law_23 ?_
    obtain ⟨c2, h⟩ := h
    obtain ⟨c3, h⟩ := h
    refine j_icmp_gt O (tgt := 1409) dL_law_24 (by decide) c2 c3 h (fun h => ?_) (fun h => ?_)
    · refine j_iconst O dL_law_1409 ?_
      exact hend _ _ _ _ _ dL_law_1410
    · refine j_aload_n O 0 0 dL_law_27 rfl rfl ?_
      refine j_iload_n O 3 3 dL_law_28 rfl rfl ?_
      refine j_scV O hsc dL_law_29 h (fun v4 h => ?_)
      refine j_bipush (m := 63) O dL_law_30 bi_63 ?_
      refine j_iand O dL_law_32 ?_
      obtain ⟨ca, h⟩ := h
      rcases Classical.em ((ian v4 63) = 0) with e0 | e0
      · have h := h.1 e0
        refine j_tableIn O (tgt := 216) dL_law_33 ca (by omega) (by omega) (by rw [e0]; rfl) (by decide) ?_
        exact (J.sub [0, 1, 2, 3] rfl <| wk_L_law_216 O hm hsc hend _ _ _ _ _ ih _ _ _ h)
      have h := h.2 e0
      rcases Classical.em ((ian v4 63) = 1) with e1 | e1
      · have h := h.1 e1
        refine j_tableIn O (tgt := 239) dL_law_33 ca (by omega) (by omega) (by rw [e1]; rfl) (by decide) ?_
        exact (J.sub [0, 1, 2, 3] rfl <| wk_L_law_239 O hm hsc hend _ _ _ _ _ ih _ _ _ h)
      have h := h.2 e1
      rcases Classical.em ((ian v4 63) = 2) with e2 | e2
      · have h := h.1 e2
        refine j_tableIn O (tgt := 272) dL_law_33 ca (by omega) (by omega) (by rw [e2]; rfl) (by decide) ?_
        exact (J.sub [0, 1, 2, 3] rfl <| wk_L_law_272 O hm hsc hend _ _ _ _ _ ih _ _ _ h)
      have h := h.2 e2
      rcases Classical.em ((ian v4 63) = 3) with e3 | e3
      · have h := h.1 e3
        refine j_tableIn O (tgt := 315) dL_law_33 ca (by omega) (by omega) (by rw [e3]; rfl) (by decide) ?_
        exact (J.sub [0, 1, 2, 3] rfl <| wk_L_law_315 O hm hsc hend _ _ _ _ _ ih _ _ _ h)
      have h := h.2 e3
      rcases Classical.em ((ian v4 63) = 4) with e4 | e4
      · have h := h.1 e4
        refine j_tableIn O (tgt := 348) dL_law_33 ca (by omega) (by omega) (by rw [e4]; rfl) (by decide) ?_
        exact (J.sub [0, 1, 2, 3] rfl <| wk_L_law_348 O hm hsc hend _ _ _ _ _ ih _ _ _ h)
      have h := h.2 e4
      rcases Classical.em ((ian v4 63) = 5) with e5 | e5
      · have h := h.1 e5
        refine j_tableIn O (tgt := 381) dL_law_33 ca (by omega) (by omega) (by rw [e5]; rfl) (by decide) ?_
        exact (J.sub [0, 1, 2, 3] rfl <| wk_L_law_381 O hm hsc hend _ _ _ _ _ ih _ _ _ h)
      have h := h.2 e5
      rcases Classical.em ((ian v4 63) = 6) with e6 | e6
      · have h := h.1 e6
        refine j_tableIn O (tgt := 424) dL_law_33 ca (by omega) (by omega) (by rw [e6]; rfl) (by decide) ?_
        exact (J.sub [0, 1, 2, 3] rfl <| wk_L_law_424 O hm hsc hend _ _ _ _ _ ih _ _ _ h)
      have h := h.2 e6
      rcases Classical.em ((ian v4 63) = 7) with e7 | e7
      · have h := h.1 e7
        refine j_tableIn O (tgt := 457) dL_law_33 ca (by omega) (by omega) (by rw [e7]; rfl) (by decide) ?_
        exact (J.sub [0, 1, 2, 3] rfl <| wk_L_law_457 O hm hsc hend _ _ _ _ _ ih _ _ _ h)
      have h := h.2 e7
      rcases Classical.em ((ian v4 63) = 8) with e8 | e8
      · have h := h.1 e8
        refine j_tableIn O (tgt := 520) dL_law_33 ca (by omega) (by omega) (by rw [e8]; rfl) (by decide) ?_
        exact (J.sub [0, 1, 2, 3] rfl <| wk_L_law_520 O hm hsc hend _ _ _ _ _ ih _ _ _ h)
      have h := h.2 e8
      rcases Classical.em ((ian v4 63) = 9) with e9 | e9
      · have h := h.1 e9
        refine j_tableIn O (tgt := 543) dL_law_33 ca (by omega) (by omega) (by rw [e9]; rfl) (by decide) ?_
        exact (J.sub [0, 1, 2, 3] rfl <| wk_L_law_543 O hm hsc hend _ _ _ _ _ ih _ _ _ h)
      have h := h.2 e9
      rcases Classical.em ((ian v4 63) = 10) with e10 | e10
      · have h := h.1 e10
        refine j_tableIn O (tgt := 556) dL_law_33 ca (by omega) (by omega) (by rw [e10]; rfl) (by decide) ?_
        exact (J.sub [0, 1, 2, 3] rfl <| wk_L_law_556 O hm hsc hend _ _ _ _ _ ih _ _ _ h)
      have h := h.2 e10
      rcases Classical.em ((ian v4 63) = 11) with e11 | e11
      · have h := h.1 e11
        refine j_tableIn O (tgt := 569) dL_law_33 ca (by omega) (by omega) (by rw [e11]; rfl) (by decide) ?_
        exact (J.sub [0, 1, 2, 3] rfl <| wk_L_law_569 O hm hsc hend _ _ _ _ _ ih _ _ _ h)
      have h := h.2 e11
      rcases Classical.em ((ian v4 63) = 12) with e12 | e12
      · have h := h.1 e12
        refine j_tableIn O (tgt := 582) dL_law_33 ca (by omega) (by omega) (by rw [e12]; rfl) (by decide) ?_
        exact (J.sub [0, 1, 2, 3] rfl <| wk_L_law_582 O hm hsc hend _ _ _ _ _ ih _ _ _ h)
      have h := h.2 e12
      rcases Classical.em ((ian v4 63) = 13) with e13 | e13
      · have h := h.1 e13
        refine j_tableIn O (tgt := 595) dL_law_33 ca (by omega) (by omega) (by rw [e13]; rfl) (by decide) ?_
        exact (J.sub [0, 1, 2, 3] rfl <| wk_L_law_595 O hm hsc hend _ _ _ _ _ ih _ _ _ h)
      have h := h.2 e13
      rcases Classical.em ((ian v4 63) = 14) with e14 | e14
      · have h := h.1 e14
        refine j_tableIn O (tgt := 608) dL_law_33 ca (by omega) (by omega) (by rw [e14]; rfl) (by decide) ?_
        exact (J.sub [0, 1, 2, 3] rfl <| wk_L_law_608 O hm hsc hend _ _ _ _ _ ih _ _ _ h)
      have h := h.2 e14
      rcases Classical.em ((ian v4 63) = 15) with e15 | e15
      · have h := h.1 e15
        refine j_tableIn O (tgt := 621) dL_law_33 ca (by omega) (by omega) (by rw [e15]; rfl) (by decide) ?_
        exact (J.sub [0, 1, 2, 3] rfl <| wk_L_law_621 O hm hsc hend _ _ _ _ _ ih _ _ _ h)
      have h := h.2 e15
      rcases Classical.em ((ian v4 63) = 16) with e16 | e16
      · have h := h.1 e16
        refine j_tableIn O (tgt := 644) dL_law_33 ca (by omega) (by omega) (by rw [e16]; rfl) (by decide) ?_
        exact (J.sub [0, 1, 2, 3] rfl <| wk_L_law_644 O hm hsc hend _ _ _ _ _ ih _ _ _ h)
      have h := h.2 e16
      rcases Classical.em ((ian v4 63) = 17) with e17 | e17
      · have h := h.1 e17
        refine j_tableIn O (tgt := 687) dL_law_33 ca (by omega) (by omega) (by rw [e17]; rfl) (by decide) ?_
        exact (J.sub [0, 1, 2, 3] rfl <| wk_L_law_687 O hm hsc hend _ _ _ _ _ ih _ _ _ h)
      have h := h.2 e17
      rcases Classical.em ((ian v4 63) = 18) with e18 | e18
      · have h := h.1 e18
        refine j_tableIn O (tgt := 720) dL_law_33 ca (by omega) (by omega) (by rw [e18]; rfl) (by decide) ?_
        exact (J.sub [0, 1, 2, 3] rfl <| wk_L_law_720 O hm hsc hend _ _ _ _ _ ih _ _ _ h)
      have h := h.2 e18
      rcases Classical.em ((ian v4 63) = 19) with e19 | e19
      · have h := h.1 e19
        refine j_tableIn O (tgt := 753) dL_law_33 ca (by omega) (by omega) (by rw [e19]; rfl) (by decide) ?_
        exact (J.sub [0, 1, 2, 3] rfl <| wk_L_law_753 O hm hsc hend _ _ _ _ _ ih _ _ _ h)
      have h := h.2 e19
      rcases Classical.em ((ian v4 63) = 20) with e20 | e20
      · have h := h.1 e20
        refine j_tableIn O (tgt := 766) dL_law_33 ca (by omega) (by omega) (by rw [e20]; rfl) (by decide) ?_
        exact (J.sub [0, 1, 2, 3] rfl <| wk_L_law_766 O hm hsc hend _ _ _ _ _ ih _ _ _ h)
      have h := h.2 e20
      rcases Classical.em ((ian v4 63) = 21) with e21 | e21
      · have h := h.1 e21
        refine j_tableIn O (tgt := 779) dL_law_33 ca (by omega) (by omega) (by rw [e21]; rfl) (by decide) ?_
        exact (J.sub [0, 1, 2, 3] rfl <| wk_L_law_779 O hm hsc hend _ _ _ _ _ ih _ _ _ h)
      have h := h.2 e21
      rcases Classical.em ((ian v4 63) = 22) with e22 | e22
      · have h := h.1 e22
        refine j_tableIn O (tgt := 822) dL_law_33 ca (by omega) (by omega) (by rw [e22]; rfl) (by decide) ?_
        exact (J.sub [0, 1, 2, 3] rfl <| wk_L_law_822 O hm hsc hend _ _ _ _ _ ih _ _ _ h)
      have h := h.2 e22
      rcases Classical.em ((ian v4 63) = 23) with e23 | e23
      · have h := h.1 e23
        refine j_tableIn O (tgt := 835) dL_law_33 ca (by omega) (by omega) (by rw [e23]; rfl) (by decide) ?_
        exact (J.sub [0, 1, 2, 3] rfl <| wk_L_law_835 O hm hsc hend _ _ _ _ _ ih _ _ _ h)
      have h := h.2 e23
      rcases Classical.em ((ian v4 63) = 24) with e24 | e24
      · have h := h.1 e24
        refine j_tableIn O (tgt := 848) dL_law_33 ca (by omega) (by omega) (by rw [e24]; rfl) (by decide) ?_
        exact (J.sub [0, 1, 2, 3] rfl <| wk_L_law_848 O hm hsc hend _ _ _ _ _ ih _ _ _ h)
      have h := h.2 e24
      rcases Classical.em ((ian v4 63) = 25) with e25 | e25
      · have h := h.1 e25
        refine j_tableIn O (tgt := 871) dL_law_33 ca (by omega) (by omega) (by rw [e25]; rfl) (by decide) ?_
        exact (J.sub [0, 1, 2, 3] rfl <| wk_L_law_871 O hm hsc hend _ _ _ _ _ ih _ _ _ h)
      have h := h.2 e25
      rcases Classical.em ((ian v4 63) = 26) with e26 | e26
      · have h := h.1 e26
        refine j_tableIn O (tgt := 894) dL_law_33 ca (by omega) (by omega) (by rw [e26]; rfl) (by decide) ?_
        exact (J.sub [0, 1, 2, 3] rfl <| wk_L_law_894 O hm hsc hend _ _ _ _ _ ih _ _ _ h)
      have h := h.2 e26
      rcases Classical.em ((ian v4 63) = 27) with e27 | e27
      · have h := h.1 e27
        refine j_tableIn O (tgt := 927) dL_law_33 ca (by omega) (by omega) (by rw [e27]; rfl) (by decide) ?_
        exact (J.sub [0, 1, 2, 3] rfl <| wk_L_law_927 O hm hsc hend _ _ _ _ _ ih _ _ _ h)
      have h := h.2 e27
      rcases Classical.em ((ian v4 63) = 28) with e28 | e28
      · have h := h.1 e28
        refine j_tableIn O (tgt := 970) dL_law_33 ca (by omega) (by omega) (by rw [e28]; rfl) (by decide) ?_
        exact (J.sub [0, 1, 2, 3] rfl <| wk_L_law_970 O hm hsc hend _ _ _ _ _ ih _ _ _ h)
      have h := h.2 e28
      rcases Classical.em ((ian v4 63) = 29) with e29 | e29
      · have h := h.1 e29
        refine j_tableIn O (tgt := 1013) dL_law_33 ca (by omega) (by omega) (by rw [e29]; rfl) (by decide) ?_
        exact (J.sub [0, 1, 2, 3] rfl <| wk_L_law_1013 O hm hsc hend _ _ _ _ _ ih _ _ _ h)
      have h := h.2 e29
      rcases Classical.em ((ian v4 63) = 30) with e30 | e30
      · have h := h.1 e30
        refine j_tableIn O (tgt := 1056) dL_law_33 ca (by omega) (by omega) (by rw [e30]; rfl) (by decide) ?_
        exact (J.sub [0, 1, 2, 3] rfl <| wk_L_law_1056 O hm hsc hend _ _ _ _ _ ih _ _ _ h)
      have h := h.2 e30
      rcases Classical.em ((ian v4 63) = 31) with e31 | e31
      · have h := h.1 e31
        refine j_tableIn O (tgt := 1109) dL_law_33 ca (by omega) (by omega) (by rw [e31]; rfl) (by decide) ?_
        exact (J.sub [0, 1, 2, 3] rfl <| wk_L_law_1109 O hm hsc hend _ _ _ _ _ ih _ _ _ h)
      have h := h.2 e31
      rcases Classical.em ((ian v4 63) = 32) with e32 | e32
      · have h := h.1 e32
        refine j_tableIn O (tgt := 1142) dL_law_33 ca (by omega) (by omega) (by rw [e32]; rfl) (by decide) ?_
        exact (J.sub [0, 1, 2, 3] rfl <| wk_L_law_1142 O hm hsc hend _ _ _ _ _ ih _ _ _ h)
      have h := h.2 e32
      rcases Classical.em ((ian v4 63) = 33) with e33 | e33
      · have h := h.1 e33
        refine j_tableIn O (tgt := 1175) dL_law_33 ca (by omega) (by omega) (by rw [e33]; rfl) (by decide) ?_
        exact (J.sub [0, 1, 2, 3] rfl <| wk_L_law_1175 O hm hsc hend _ _ _ _ _ ih _ _ _ h)
      have h := h.2 e33
      rcases Classical.em ((ian v4 63) = 34) with e34 | e34
      · have h := h.1 e34
        refine j_tableIn O (tgt := 1198) dL_law_33 ca (by omega) (by omega) (by rw [e34]; rfl) (by decide) ?_
        exact (J.sub [0, 1, 2, 3] rfl <| wk_L_law_1198 O hm hsc hend _ _ _ _ _ ih _ _ _ h)
      have h := h.2 e34
      rcases Classical.em ((ian v4 63) = 35) with e35 | e35
      · have h := h.1 e35
        refine j_tableIn O (tgt := 1232) dL_law_33 ca (by omega) (by omega) (by rw [e35]; rfl) (by decide) ?_
        exact (J.sub [0, 1, 2, 3] rfl <| wk_L_law_1232 O hm hsc hend _ _ _ _ _ ih _ _ _ h)
      have h := h.2 e35
      rcases Classical.em ((ian v4 63) = 36) with e36 | e36
      · have h := h.1 e36
        refine j_tableIn O (tgt := 1255) dL_law_33 ca (by omega) (by omega) (by rw [e36]; rfl) (by decide) ?_
        exact (J.sub [0, 1, 2, 3] rfl <| wk_L_law_1255 O hm hsc hend _ _ _ _ _ ih _ _ _ h)
      have h := h.2 e36
      rcases Classical.em ((ian v4 63) = 37) with e37 | e37
      · have h := h.1 e37
        refine j_tableIn O (tgt := 1288) dL_law_33 ca (by omega) (by omega) (by rw [e37]; rfl) (by decide) ?_
        exact (J.sub [0, 1, 2, 3] rfl <| wk_L_law_1288 O hm hsc hend _ _ _ _ _ ih _ _ _ h)
      have h := h.2 e37
      rcases Classical.em ((ian v4 63) = 38) with e38 | e38
      · have h := h.1 e38
        refine j_tableIn O (tgt := 1321) dL_law_33 ca (by omega) (by omega) (by rw [e38]; rfl) (by decide) ?_
        exact (J.sub [0, 1, 2, 3] rfl <| wk_L_law_1321 O hm hsc hend _ _ _ _ _ ih _ _ _ h)
      have h := h.2 e38
      rcases Classical.em ((ian v4 63) = 39) with e39 | e39
      · have h := h.1 e39
        refine j_tableIn O (tgt := 1344) dL_law_33 ca (by omega) (by omega) (by rw [e39]; rfl) (by decide) ?_
        exact (J.sub [0, 1, 2, 3] rfl <| wk_L_law_1344 O hm hsc hend _ _ _ _ _ ih _ _ _ h)
      have h := h.2 e39
      rcases Classical.em ((ian v4 63) = 40) with e40 | e40
      · have h := h.1 e40
        refine j_tableIn O (tgt := 1367) dL_law_33 ca (by omega) (by omega) (by rw [e40]; rfl) (by decide) ?_
        exact (J.sub [0, 1, 2, 3] rfl <| wk_L_law_1367 O hm hsc hend _ _ _ _ _ ih _ _ _ h)
      have h := h.2 e40
      rcases Classical.em ((ian v4 63) = 41) with e41 | e41
      · have h := h.1 e41
        refine j_tableIn O (tgt := 1390) dL_law_33 ca (by omega) (by omega) (by rw [e41]; rfl) (by decide) ?_
        exact (J.sub [0, 1, 2, 3] rfl <| wk_L_law_1390 O hm hsc hend _ _ _ _ _ ih _ _ _ h)
      have h := h.2 e41
      refine j_tableOut O (tgt := 1403) dL_law_33 ca (by omega) (by decide) ?_
      exact (J.sub [0, 1, 2, 3] rfl <| wk_L_law_1403 O hm hsc hend _ _ _ _ _ ih _ _ _ h)
theorem wk_L_law_it {x : Cx} {nn : Nat} {sc : Nat → Int} {Z : State → Prop} (O : OK x "DowryBoxesLaw" cL_law 113) (hm : xn x = 4) (hsc : SCR x nn sc) (hend : LEND x Z) (K18 : Int → Nat → Nat → Wd → Prop) (x0 : Nat) (x1 : Nat) (x2 : Nat) (x3 : Int) (hK18 : ∀ (y3 : Int) (bc bs : Nat) (w : Wd), K18 y3 bc bs w → J x Z w bc bs 18 [(0, .ref (adG (xG x) (x0))), (1, .ref (adG (xG x) (x1))), (2, .ref (adG (xG x) (x2))), (3, vI (y3))] []) (bc bs : Nat) (w : Wd) (h : wp_L_law_it nn sc K18 x0 x1 x2 x3 bc bs w) : J x Z w bc bs 18 [(0, .ref (adG (xG x) (x0))), (1, .ref (adG (xG x) (x1))), (2, .ref (adG (xG x) (x2))), (3, vI (x3))] [] := by
  unfold wp_L_law_it at h
  refine j_iload_n O 3 3 dL_law_18 rfl rfl ?_
  refine j_aload_n O 0 0 dL_law_19 rfl rfl ?_
  refine j_scN O hsc dL_law_20 h (fun v1 h => ?_)
  refine j_bipush (m := 6) O dL_law_21 bi_6 ?_
  refine j_isub O dL_law_23 ?_
  obtain ⟨c2, h⟩ := h
  obtain ⟨c3, h⟩ := h
  refine j_icmp_gt O (tgt := 1409) dL_law_24 (by decide) c2 c3 h (fun h => ?_) (fun h => ?_)
  · refine j_iconst O dL_law_1409 ?_
    exact hend _ _ _ _ _ dL_law_1410
  · refine j_aload_n O 0 0 dL_law_27 rfl rfl ?_
    refine j_iload_n O 3 3 dL_law_28 rfl rfl ?_
    refine j_scV O hsc dL_law_29 h (fun v4 h => ?_)
    refine j_bipush (m := 63) O dL_law_30 bi_63 ?_
    refine j_iand O dL_law_32 ?_
    obtain ⟨ca, h⟩ := h
    rcases Classical.em ((ian v4 63) = 0) with e0 | e0
    · have h := h.1 e0
      refine j_tableIn O (tgt := 216) dL_law_33 ca (by omega) (by omega) (by rw [e0]; rfl) (by decide) ?_
      exact (J.sub [0, 1, 2, 3] rfl <| wk_L_law_216 O hm hsc hend _ _ _ _ _ hK18 _ _ _ h)
    have h := h.2 e0
    rcases Classical.em ((ian v4 63) = 1) with e1 | e1
    · have h := h.1 e1
      refine j_tableIn O (tgt := 239) dL_law_33 ca (by omega) (by omega) (by rw [e1]; rfl) (by decide) ?_
      exact (J.sub [0, 1, 2, 3] rfl <| wk_L_law_239 O hm hsc hend _ _ _ _ _ hK18 _ _ _ h)
    have h := h.2 e1
    rcases Classical.em ((ian v4 63) = 2) with e2 | e2
    · have h := h.1 e2
      refine j_tableIn O (tgt := 272) dL_law_33 ca (by omega) (by omega) (by rw [e2]; rfl) (by decide) ?_
      exact (J.sub [0, 1, 2, 3] rfl <| wk_L_law_272 O hm hsc hend _ _ _ _ _ hK18 _ _ _ h)
    have h := h.2 e2
    rcases Classical.em ((ian v4 63) = 3) with e3 | e3
    · have h := h.1 e3
      refine j_tableIn O (tgt := 315) dL_law_33 ca (by omega) (by omega) (by rw [e3]; rfl) (by decide) ?_
      exact (J.sub [0, 1, 2, 3] rfl <| wk_L_law_315 O hm hsc hend _ _ _ _ _ hK18 _ _ _ h)
    have h := h.2 e3
    rcases Classical.em ((ian v4 63) = 4) with e4 | e4
    · have h := h.1 e4
      refine j_tableIn O (tgt := 348) dL_law_33 ca (by omega) (by omega) (by rw [e4]; rfl) (by decide) ?_
      exact (J.sub [0, 1, 2, 3] rfl <| wk_L_law_348 O hm hsc hend _ _ _ _ _ hK18 _ _ _ h)
    have h := h.2 e4
    rcases Classical.em ((ian v4 63) = 5) with e5 | e5
    · have h := h.1 e5
      refine j_tableIn O (tgt := 381) dL_law_33 ca (by omega) (by omega) (by rw [e5]; rfl) (by decide) ?_
      exact (J.sub [0, 1, 2, 3] rfl <| wk_L_law_381 O hm hsc hend _ _ _ _ _ hK18 _ _ _ h)
    have h := h.2 e5
    rcases Classical.em ((ian v4 63) = 6) with e6 | e6
    · have h := h.1 e6
      refine j_tableIn O (tgt := 424) dL_law_33 ca (by omega) (by omega) (by rw [e6]; rfl) (by decide) ?_
      exact (J.sub [0, 1, 2, 3] rfl <| wk_L_law_424 O hm hsc hend _ _ _ _ _ hK18 _ _ _ h)
    have h := h.2 e6
    rcases Classical.em ((ian v4 63) = 7) with e7 | e7
    · have h := h.1 e7
      refine j_tableIn O (tgt := 457) dL_law_33 ca (by omega) (by omega) (by rw [e7]; rfl) (by decide) ?_
      exact (J.sub [0, 1, 2, 3] rfl <| wk_L_law_457 O hm hsc hend _ _ _ _ _ hK18 _ _ _ h)
    have h := h.2 e7
    rcases Classical.em ((ian v4 63) = 8) with e8 | e8
    · have h := h.1 e8
      refine j_tableIn O (tgt := 520) dL_law_33 ca (by omega) (by omega) (by rw [e8]; rfl) (by decide) ?_
      exact (J.sub [0, 1, 2, 3] rfl <| wk_L_law_520 O hm hsc hend _ _ _ _ _ hK18 _ _ _ h)
    have h := h.2 e8
    rcases Classical.em ((ian v4 63) = 9) with e9 | e9
    · have h := h.1 e9
      refine j_tableIn O (tgt := 543) dL_law_33 ca (by omega) (by omega) (by rw [e9]; rfl) (by decide) ?_
      exact (J.sub [0, 1, 2, 3] rfl <| wk_L_law_543 O hm hsc hend _ _ _ _ _ hK18 _ _ _ h)
    have h := h.2 e9
    rcases Classical.em ((ian v4 63) = 10) with e10 | e10
    · have h := h.1 e10
      refine j_tableIn O (tgt := 556) dL_law_33 ca (by omega) (by omega) (by rw [e10]; rfl) (by decide) ?_
      exact (J.sub [0, 1, 2, 3] rfl <| wk_L_law_556 O hm hsc hend _ _ _ _ _ hK18 _ _ _ h)
    have h := h.2 e10
    rcases Classical.em ((ian v4 63) = 11) with e11 | e11
    · have h := h.1 e11
      refine j_tableIn O (tgt := 569) dL_law_33 ca (by omega) (by omega) (by rw [e11]; rfl) (by decide) ?_
      exact (J.sub [0, 1, 2, 3] rfl <| wk_L_law_569 O hm hsc hend _ _ _ _ _ hK18 _ _ _ h)
    have h := h.2 e11
    rcases Classical.em ((ian v4 63) = 12) with e12 | e12
    · have h := h.1 e12
      refine j_tableIn O (tgt := 582) dL_law_33 ca (by omega) (by omega) (by rw [e12]; rfl) (by decide) ?_
      exact (J.sub [0, 1, 2, 3] rfl <| wk_L_law_582 O hm hsc hend _ _ _ _ _ hK18 _ _ _ h)
    have h := h.2 e12
    rcases Classical.em ((ian v4 63) = 13) with e13 | e13
    · have h := h.1 e13
      refine j_tableIn O (tgt := 595) dL_law_33 ca (by omega) (by omega) (by rw [e13]; rfl) (by decide) ?_
      exact (J.sub [0, 1, 2, 3] rfl <| wk_L_law_595 O hm hsc hend _ _ _ _ _ hK18 _ _ _ h)
    have h := h.2 e13
    rcases Classical.em ((ian v4 63) = 14) with e14 | e14
    · have h := h.1 e14
      refine j_tableIn O (tgt := 608) dL_law_33 ca (by omega) (by omega) (by rw [e14]; rfl) (by decide) ?_
      exact (J.sub [0, 1, 2, 3] rfl <| wk_L_law_608 O hm hsc hend _ _ _ _ _ hK18 _ _ _ h)
    have h := h.2 e14
    rcases Classical.em ((ian v4 63) = 15) with e15 | e15
    · have h := h.1 e15
      refine j_tableIn O (tgt := 621) dL_law_33 ca (by omega) (by omega) (by rw [e15]; rfl) (by decide) ?_
      exact (J.sub [0, 1, 2, 3] rfl <| wk_L_law_621 O hm hsc hend _ _ _ _ _ hK18 _ _ _ h)
    have h := h.2 e15
    rcases Classical.em ((ian v4 63) = 16) with e16 | e16
    · have h := h.1 e16
      refine j_tableIn O (tgt := 644) dL_law_33 ca (by omega) (by omega) (by rw [e16]; rfl) (by decide) ?_
      exact (J.sub [0, 1, 2, 3] rfl <| wk_L_law_644 O hm hsc hend _ _ _ _ _ hK18 _ _ _ h)
    have h := h.2 e16
    rcases Classical.em ((ian v4 63) = 17) with e17 | e17
    · have h := h.1 e17
      refine j_tableIn O (tgt := 687) dL_law_33 ca (by omega) (by omega) (by rw [e17]; rfl) (by decide) ?_
      exact (J.sub [0, 1, 2, 3] rfl <| wk_L_law_687 O hm hsc hend _ _ _ _ _ hK18 _ _ _ h)
    have h := h.2 e17
    rcases Classical.em ((ian v4 63) = 18) with e18 | e18
    · have h := h.1 e18
      refine j_tableIn O (tgt := 720) dL_law_33 ca (by omega) (by omega) (by rw [e18]; rfl) (by decide) ?_
      exact (J.sub [0, 1, 2, 3] rfl <| wk_L_law_720 O hm hsc hend _ _ _ _ _ hK18 _ _ _ h)
    have h := h.2 e18
    rcases Classical.em ((ian v4 63) = 19) with e19 | e19
    · have h := h.1 e19
      refine j_tableIn O (tgt := 753) dL_law_33 ca (by omega) (by omega) (by rw [e19]; rfl) (by decide) ?_
      exact (J.sub [0, 1, 2, 3] rfl <| wk_L_law_753 O hm hsc hend _ _ _ _ _ hK18 _ _ _ h)
    have h := h.2 e19
    rcases Classical.em ((ian v4 63) = 20) with e20 | e20
    · have h := h.1 e20
      refine j_tableIn O (tgt := 766) dL_law_33 ca (by omega) (by omega) (by rw [e20]; rfl) (by decide) ?_
      exact (J.sub [0, 1, 2, 3] rfl <| wk_L_law_766 O hm hsc hend _ _ _ _ _ hK18 _ _ _ h)
    have h := h.2 e20
    rcases Classical.em ((ian v4 63) = 21) with e21 | e21
    · have h := h.1 e21
      refine j_tableIn O (tgt := 779) dL_law_33 ca (by omega) (by omega) (by rw [e21]; rfl) (by decide) ?_
      exact (J.sub [0, 1, 2, 3] rfl <| wk_L_law_779 O hm hsc hend _ _ _ _ _ hK18 _ _ _ h)
    have h := h.2 e21
    rcases Classical.em ((ian v4 63) = 22) with e22 | e22
    · have h := h.1 e22
      refine j_tableIn O (tgt := 822) dL_law_33 ca (by omega) (by omega) (by rw [e22]; rfl) (by decide) ?_
      exact (J.sub [0, 1, 2, 3] rfl <| wk_L_law_822 O hm hsc hend _ _ _ _ _ hK18 _ _ _ h)
    have h := h.2 e22
    rcases Classical.em ((ian v4 63) = 23) with e23 | e23
    · have h := h.1 e23
      refine j_tableIn O (tgt := 835) dL_law_33 ca (by omega) (by omega) (by rw [e23]; rfl) (by decide) ?_
      exact (J.sub [0, 1, 2, 3] rfl <| wk_L_law_835 O hm hsc hend _ _ _ _ _ hK18 _ _ _ h)
    have h := h.2 e23
    rcases Classical.em ((ian v4 63) = 24) with e24 | e24
    · have h := h.1 e24
      refine j_tableIn O (tgt := 848) dL_law_33 ca (by omega) (by omega) (by rw [e24]; rfl) (by decide) ?_
      exact (J.sub [0, 1, 2, 3] rfl <| wk_L_law_848 O hm hsc hend _ _ _ _ _ hK18 _ _ _ h)
    have h := h.2 e24
    rcases Classical.em ((ian v4 63) = 25) with e25 | e25
    · have h := h.1 e25
      refine j_tableIn O (tgt := 871) dL_law_33 ca (by omega) (by omega) (by rw [e25]; rfl) (by decide) ?_
      exact (J.sub [0, 1, 2, 3] rfl <| wk_L_law_871 O hm hsc hend _ _ _ _ _ hK18 _ _ _ h)
    have h := h.2 e25
    rcases Classical.em ((ian v4 63) = 26) with e26 | e26
    · have h := h.1 e26
      refine j_tableIn O (tgt := 894) dL_law_33 ca (by omega) (by omega) (by rw [e26]; rfl) (by decide) ?_
      exact (J.sub [0, 1, 2, 3] rfl <| wk_L_law_894 O hm hsc hend _ _ _ _ _ hK18 _ _ _ h)
    have h := h.2 e26
    rcases Classical.em ((ian v4 63) = 27) with e27 | e27
    · have h := h.1 e27
      refine j_tableIn O (tgt := 927) dL_law_33 ca (by omega) (by omega) (by rw [e27]; rfl) (by decide) ?_
      exact (J.sub [0, 1, 2, 3] rfl <| wk_L_law_927 O hm hsc hend _ _ _ _ _ hK18 _ _ _ h)
    have h := h.2 e27
    rcases Classical.em ((ian v4 63) = 28) with e28 | e28
    · have h := h.1 e28
      refine j_tableIn O (tgt := 970) dL_law_33 ca (by omega) (by omega) (by rw [e28]; rfl) (by decide) ?_
      exact (J.sub [0, 1, 2, 3] rfl <| wk_L_law_970 O hm hsc hend _ _ _ _ _ hK18 _ _ _ h)
    have h := h.2 e28
    rcases Classical.em ((ian v4 63) = 29) with e29 | e29
    · have h := h.1 e29
      refine j_tableIn O (tgt := 1013) dL_law_33 ca (by omega) (by omega) (by rw [e29]; rfl) (by decide) ?_
      exact (J.sub [0, 1, 2, 3] rfl <| wk_L_law_1013 O hm hsc hend _ _ _ _ _ hK18 _ _ _ h)
    have h := h.2 e29
    rcases Classical.em ((ian v4 63) = 30) with e30 | e30
    · have h := h.1 e30
      refine j_tableIn O (tgt := 1056) dL_law_33 ca (by omega) (by omega) (by rw [e30]; rfl) (by decide) ?_
      exact (J.sub [0, 1, 2, 3] rfl <| wk_L_law_1056 O hm hsc hend _ _ _ _ _ hK18 _ _ _ h)
    have h := h.2 e30
    rcases Classical.em ((ian v4 63) = 31) with e31 | e31
    · have h := h.1 e31
      refine j_tableIn O (tgt := 1109) dL_law_33 ca (by omega) (by omega) (by rw [e31]; rfl) (by decide) ?_
      exact (J.sub [0, 1, 2, 3] rfl <| wk_L_law_1109 O hm hsc hend _ _ _ _ _ hK18 _ _ _ h)
    have h := h.2 e31
    rcases Classical.em ((ian v4 63) = 32) with e32 | e32
    · have h := h.1 e32
      refine j_tableIn O (tgt := 1142) dL_law_33 ca (by omega) (by omega) (by rw [e32]; rfl) (by decide) ?_
      exact (J.sub [0, 1, 2, 3] rfl <| wk_L_law_1142 O hm hsc hend _ _ _ _ _ hK18 _ _ _ h)
    have h := h.2 e32
    rcases Classical.em ((ian v4 63) = 33) with e33 | e33
    · have h := h.1 e33
      refine j_tableIn O (tgt := 1175) dL_law_33 ca (by omega) (by omega) (by rw [e33]; rfl) (by decide) ?_
      exact (J.sub [0, 1, 2, 3] rfl <| wk_L_law_1175 O hm hsc hend _ _ _ _ _ hK18 _ _ _ h)
    have h := h.2 e33
    rcases Classical.em ((ian v4 63) = 34) with e34 | e34
    · have h := h.1 e34
      refine j_tableIn O (tgt := 1198) dL_law_33 ca (by omega) (by omega) (by rw [e34]; rfl) (by decide) ?_
      exact (J.sub [0, 1, 2, 3] rfl <| wk_L_law_1198 O hm hsc hend _ _ _ _ _ hK18 _ _ _ h)
    have h := h.2 e34
    rcases Classical.em ((ian v4 63) = 35) with e35 | e35
    · have h := h.1 e35
      refine j_tableIn O (tgt := 1232) dL_law_33 ca (by omega) (by omega) (by rw [e35]; rfl) (by decide) ?_
      exact (J.sub [0, 1, 2, 3] rfl <| wk_L_law_1232 O hm hsc hend _ _ _ _ _ hK18 _ _ _ h)
    have h := h.2 e35
    rcases Classical.em ((ian v4 63) = 36) with e36 | e36
    · have h := h.1 e36
      refine j_tableIn O (tgt := 1255) dL_law_33 ca (by omega) (by omega) (by rw [e36]; rfl) (by decide) ?_
      exact (J.sub [0, 1, 2, 3] rfl <| wk_L_law_1255 O hm hsc hend _ _ _ _ _ hK18 _ _ _ h)
    have h := h.2 e36
    rcases Classical.em ((ian v4 63) = 37) with e37 | e37
    · have h := h.1 e37
      refine j_tableIn O (tgt := 1288) dL_law_33 ca (by omega) (by omega) (by rw [e37]; rfl) (by decide) ?_
      exact (J.sub [0, 1, 2, 3] rfl <| wk_L_law_1288 O hm hsc hend _ _ _ _ _ hK18 _ _ _ h)
    have h := h.2 e37
    rcases Classical.em ((ian v4 63) = 38) with e38 | e38
    · have h := h.1 e38
      refine j_tableIn O (tgt := 1321) dL_law_33 ca (by omega) (by omega) (by rw [e38]; rfl) (by decide) ?_
      exact (J.sub [0, 1, 2, 3] rfl <| wk_L_law_1321 O hm hsc hend _ _ _ _ _ hK18 _ _ _ h)
    have h := h.2 e38
    rcases Classical.em ((ian v4 63) = 39) with e39 | e39
    · have h := h.1 e39
      refine j_tableIn O (tgt := 1344) dL_law_33 ca (by omega) (by omega) (by rw [e39]; rfl) (by decide) ?_
      exact (J.sub [0, 1, 2, 3] rfl <| wk_L_law_1344 O hm hsc hend _ _ _ _ _ hK18 _ _ _ h)
    have h := h.2 e39
    rcases Classical.em ((ian v4 63) = 40) with e40 | e40
    · have h := h.1 e40
      refine j_tableIn O (tgt := 1367) dL_law_33 ca (by omega) (by omega) (by rw [e40]; rfl) (by decide) ?_
      exact (J.sub [0, 1, 2, 3] rfl <| wk_L_law_1367 O hm hsc hend _ _ _ _ _ hK18 _ _ _ h)
    have h := h.2 e40
    rcases Classical.em ((ian v4 63) = 41) with e41 | e41
    · have h := h.1 e41
      refine j_tableIn O (tgt := 1390) dL_law_33 ca (by omega) (by omega) (by rw [e41]; rfl) (by decide) ?_
      exact (J.sub [0, 1, 2, 3] rfl <| wk_L_law_1390 O hm hsc hend _ _ _ _ _ hK18 _ _ _ h)
    have h := h.2 e41
    refine j_tableOut O (tgt := 1403) dL_law_33 ca (by omega) (by decide) ?_
    exact (J.sub [0, 1, 2, 3] rfl <| wk_L_law_1403 O hm hsc hend _ _ _ _ _ hK18 _ _ _ h)
theorem wk_L_law {x : Cx} {Z : State → Prop} (O : OK x "DowryBoxesLaw" cL_law 113) (hm : xn x = 4) (K18 : Nat → Nat → Nat → Nat → Wd → Prop) (x0 : Nat) (hK18 : ∀ x1 x2 bc bs w, K18 x1 x2 bc bs w → J x Z w bc bs 18 [(0, .ref (adG (xG x) x0)), (1, .ref (adG (xG x) x1)), (2, .ref (adG (xG x) x2)), (3, vI 0)] []) (bc bs : Nat) (w : Wd) (h : wp_L_law K18 x0 bc bs w) : J x Z w bc bs 0 [(0, .ref (adG (xG x) x0))] [] := by
  unfold wp_L_law at h
  refine j_newO O cfX0 q157 q158 q121 dL_law_0 h (fun k1 w2 h => ?_)
  refine j_dup O dL_law_3 rfl ?_
  obtain ⟨mc4, ms5, hb6, h⟩ := h
  refine fin_V O hb6 (run_I (As := []) (st := [.ref (adG (xG x) (k1))]) O (mt_X0_init (xl x) (xG x) _ _ _ _ _ h) q159 q160 q121 q161 rfl hy_X0_init.2 (Nat.le_of_ble_eq_true rfl) (Nat.le_of_ble_eq_true rfl) hb6 rfl (Nat.le_of_ble_eq_true rfl) dL_law_4) (fun w3 h => ?_)
  refine j_astore_n (L' := [(1, .ref (adG (xG x) (k1))), (0, .ref (adG (xG x) (x0)))]) O 1 dL_law_7 rfl (by rw [hm]; decide) rfl ?_
  refine j_newO O cfX5 q1538 q1539 q131 dL_law_8 h (fun k7 w8 h => ?_)
  refine j_dup O dL_law_11 rfl ?_
  obtain ⟨mc10, ms11, hb12, h⟩ := h
  refine fin_V O hb12 (run_I (As := []) (st := [.ref (adG (xG x) (k7))]) O (mt_X5_init (xl x) (xG x) _ _ _ _ _ h) q1540 q1541 q131 q1542 rfl hy_X5_init.2 (Nat.le_of_ble_eq_true rfl) (Nat.le_of_ble_eq_true rfl) hb12 rfl (Nat.le_of_ble_eq_true rfl) dL_law_12) (fun w9 h => ?_)
  refine j_astore_n (L' := [(2, .ref (adG (xG x) (k7))), (1, .ref (adG (xG x) (k1))), (0, .ref (adG (xG x) (x0)))]) O 2 dL_law_15 rfl (by rw [hm]; decide) rfl ?_
  refine j_iconst O dL_law_16 ?_
  refine j_istore_n (L' := [(3, vI (0)), (2, .ref (adG (xG x) (k7))), (1, .ref (adG (xG x) (k1))), (0, .ref (adG (xG x) (x0)))]) O 3 dL_law_17 rfl (by rw [hm]; decide) rfl ?_
  exact (J.sub [3, 2, 1, 0] rfl <| hK18 _ _ _ _ _ h)
