set_option maxRecDepth 100000
set_option maxHeartbeats 100000000

def B_L_law_2441 (sn : Nat) (sx : Nat → Int32) (mc ms : Nat) (Q : Bool → Hp → Prop) (LA23 : Hp → Nat → Nat → Nat → Nat → Nat → Int32 → Prop) (h : Hp) (c : Nat) (n : Nat) (x1 : Nat) (x2 : Nat) (x3 : Nat) (x4 : Int32) : Prop :=
  LA23 h c n x1 x2 x3 (x4 + (6 : Int32))
def B_L_law_249 (sn : Nat) (sx : Nat → Int32) (mc ms : Nat) (Q : Bool → Hp → Prop) (LA23 : Hp → Nat → Nat → Nat → Nat → Nat → Int32 → Prop) (h : Hp) (c : Nat) (n : Nat) (x1 : Nat) (x2 : Nat) (x3 : Nat) (x4 : Int32) : Prop :=
  B_L_law_2441 sn sx mc ms Q LA23 h c n x1 x2 x3 x4
def B_L_law_319 (sn : Nat) (sx : Nat → Int32) (mc ms : Nat) (Q : Bool → Hp → Prop) (LA23 : Hp → Nat → Nat → Nat → Nat → Nat → Int32 → Prop) (h : Hp) (c : Nat) (n : Nat) (x1 : Nat) (x2 : Nat) (x3 : Nat) (x4 : Int32) : Prop :=
  B_L_law_2441 sn sx mc ms Q LA23 h c n x1 x2 x3 x4
def B_L_law_375 (sn : Nat) (sx : Nat → Int32) (mc ms : Nat) (Q : Bool → Hp → Prop) (LA23 : Hp → Nat → Nat → Nat → Nat → Nat → Int32 → Prop) (h : Hp) (c : Nat) (n : Nat) (x1 : Nat) (x2 : Nat) (x3 : Nat) (x4 : Int32) : Prop :=
  B_L_law_2441 sn sx mc ms Q LA23 h c n x1 x2 x3 x4
def B_L_law_443 (sn : Nat) (sx : Nat → Int32) (mc ms : Nat) (Q : Bool → Hp → Prop) (LA23 : Hp → Nat → Nat → Nat → Nat → Nat → Int32 → Prop) (h : Hp) (c : Nat) (n : Nat) (x1 : Nat) (x2 : Nat) (x3 : Nat) (x4 : Int32) : Prop :=
  B_L_law_2441 sn sx mc ms Q LA23 h c n x1 x2 x3 x4
def B_L_law_511 (sn : Nat) (sx : Nat → Int32) (mc ms : Nat) (Q : Bool → Hp → Prop) (LA23 : Hp → Nat → Nat → Nat → Nat → Nat → Int32 → Prop) (h : Hp) (c : Nat) (n : Nat) (x1 : Nat) (x2 : Nat) (x3 : Nat) (x4 : Int32) : Prop :=
  B_L_law_2441 sn sx mc ms Q LA23 h c n x1 x2 x3 x4
def B_L_law_579 (sn : Nat) (sx : Nat → Int32) (mc ms : Nat) (Q : Bool → Hp → Prop) (LA23 : Hp → Nat → Nat → Nat → Nat → Nat → Int32 → Prop) (h : Hp) (c : Nat) (n : Nat) (x1 : Nat) (x2 : Nat) (x3 : Nat) (x4 : Int32) : Prop :=
  B_L_law_2441 sn sx mc ms Q LA23 h c n x1 x2 x3 x4
def B_L_law_647 (sn : Nat) (sx : Nat → Int32) (mc ms : Nat) (Q : Bool → Hp → Prop) (LA23 : Hp → Nat → Nat → Nat → Nat → Nat → Int32 → Prop) (h : Hp) (c : Nat) (n : Nat) (x1 : Nat) (x2 : Nat) (x3 : Nat) (x4 : Int32) : Prop :=
  B_L_law_2441 sn sx mc ms Q LA23 h c n x1 x2 x3 x4
def B_L_law_715 (sn : Nat) (sx : Nat → Int32) (mc ms : Nat) (Q : Bool → Hp → Prop) (LA23 : Hp → Nat → Nat → Nat → Nat → Nat → Int32 → Prop) (h : Hp) (c : Nat) (n : Nat) (x1 : Nat) (x2 : Nat) (x3 : Nat) (x4 : Int32) : Prop :=
  B_L_law_2441 sn sx mc ms Q LA23 h c n x1 x2 x3 x4
def B_L_law_790 (sn : Nat) (sx : Nat → Int32) (mc ms : Nat) (Q : Bool → Hp → Prop) (LA23 : Hp → Nat → Nat → Nat → Nat → Nat → Int32 → Prop) (h : Hp) (c : Nat) (n : Nat) (x1 : Nat) (x2 : Nat) (x3 : Nat) (x4 : Int32) : Prop :=
  B_L_law_2441 sn sx mc ms Q LA23 h c n x1 x2 x3 x4
def B_L_law_858 (sn : Nat) (sx : Nat → Int32) (mc ms : Nat) (Q : Bool → Hp → Prop) (LA23 : Hp → Nat → Nat → Nat → Nat → Nat → Int32 → Prop) (h : Hp) (c : Nat) (n : Nat) (x1 : Nat) (x2 : Nat) (x3 : Nat) (x4 : Int32) : Prop :=
  B_L_law_2441 sn sx mc ms Q LA23 h c n x1 x2 x3 x4
def B_L_law_926 (sn : Nat) (sx : Nat → Int32) (mc ms : Nat) (Q : Bool → Hp → Prop) (LA23 : Hp → Nat → Nat → Nat → Nat → Nat → Int32 → Prop) (h : Hp) (c : Nat) (n : Nat) (x1 : Nat) (x2 : Nat) (x3 : Nat) (x4 : Int32) : Prop :=
  B_L_law_2441 sn sx mc ms Q LA23 h c n x1 x2 x3 x4
def B_L_law_994 (sn : Nat) (sx : Nat → Int32) (mc ms : Nat) (Q : Bool → Hp → Prop) (LA23 : Hp → Nat → Nat → Nat → Nat → Nat → Int32 → Prop) (h : Hp) (c : Nat) (n : Nat) (x1 : Nat) (x2 : Nat) (x3 : Nat) (x4 : Int32) : Prop :=
  B_L_law_2441 sn sx mc ms Q LA23 h c n x1 x2 x3 x4
def B_L_law_1074 (sn : Nat) (sx : Nat → Int32) (mc ms : Nat) (Q : Bool → Hp → Prop) (LA23 : Hp → Nat → Nat → Nat → Nat → Nat → Int32 → Prop) (h : Hp) (c : Nat) (n : Nat) (x1 : Nat) (x2 : Nat) (x3 : Nat) (x4 : Int32) : Prop :=
  B_L_law_2441 sn sx mc ms Q LA23 h c n x1 x2 x3 x4
def B_L_law_1142 (sn : Nat) (sx : Nat → Int32) (mc ms : Nat) (Q : Bool → Hp → Prop) (LA23 : Hp → Nat → Nat → Nat → Nat → Nat → Int32 → Prop) (h : Hp) (c : Nat) (n : Nat) (x1 : Nat) (x2 : Nat) (x3 : Nat) (x4 : Int32) : Prop :=
  B_L_law_2441 sn sx mc ms Q LA23 h c n x1 x2 x3 x4
def B_L_law_1246 (sn : Nat) (sx : Nat → Int32) (mc ms : Nat) (Q : Bool → Hp → Prop) (LA23 : Hp → Nat → Nat → Nat → Nat → Nat → Int32 → Prop) (h : Hp) (c : Nat) (n : Nat) (x1 : Nat) (x2 : Nat) (x3 : Nat) (x4 : Int32) : Prop :=
  B_L_law_2441 sn sx mc ms Q LA23 h c n x1 x2 x3 x4
def B_L_law_1314 (sn : Nat) (sx : Nat → Int32) (mc ms : Nat) (Q : Bool → Hp → Prop) (LA23 : Hp → Nat → Nat → Nat → Nat → Nat → Int32 → Prop) (h : Hp) (c : Nat) (n : Nat) (x1 : Nat) (x2 : Nat) (x3 : Nat) (x4 : Int32) : Prop :=
  B_L_law_2441 sn sx mc ms Q LA23 h c n x1 x2 x3 x4
def B_L_law_1382 (sn : Nat) (sx : Nat → Int32) (mc ms : Nat) (Q : Bool → Hp → Prop) (LA23 : Hp → Nat → Nat → Nat → Nat → Nat → Int32 → Prop) (h : Hp) (c : Nat) (n : Nat) (x1 : Nat) (x2 : Nat) (x3 : Nat) (x4 : Int32) : Prop :=
  B_L_law_2441 sn sx mc ms Q LA23 h c n x1 x2 x3 x4
def B_L_law_1438 (sn : Nat) (sx : Nat → Int32) (mc ms : Nat) (Q : Bool → Hp → Prop) (LA23 : Hp → Nat → Nat → Nat → Nat → Nat → Int32 → Prop) (h : Hp) (c : Nat) (n : Nat) (x1 : Nat) (x2 : Nat) (x3 : Nat) (x4 : Int32) : Prop :=
  B_L_law_2441 sn sx mc ms Q LA23 h c n x1 x2 x3 x4
def B_L_law_1518 (sn : Nat) (sx : Nat → Int32) (mc ms : Nat) (Q : Bool → Hp → Prop) (LA23 : Hp → Nat → Nat → Nat → Nat → Nat → Int32 → Prop) (h : Hp) (c : Nat) (n : Nat) (x1 : Nat) (x2 : Nat) (x3 : Nat) (x4 : Int32) : Prop :=
  B_L_law_2441 sn sx mc ms Q LA23 h c n x1 x2 x3 x4
def B_L_law_1574 (sn : Nat) (sx : Nat → Int32) (mc ms : Nat) (Q : Bool → Hp → Prop) (LA23 : Hp → Nat → Nat → Nat → Nat → Nat → Int32 → Prop) (h : Hp) (c : Nat) (n : Nat) (x1 : Nat) (x2 : Nat) (x3 : Nat) (x4 : Int32) : Prop :=
  B_L_law_2441 sn sx mc ms Q LA23 h c n x1 x2 x3 x4
def B_L_law_1630 (sn : Nat) (sx : Nat → Int32) (mc ms : Nat) (Q : Bool → Hp → Prop) (LA23 : Hp → Nat → Nat → Nat → Nat → Nat → Int32 → Prop) (h : Hp) (c : Nat) (n : Nat) (x1 : Nat) (x2 : Nat) (x3 : Nat) (x4 : Int32) : Prop :=
  B_L_law_2441 sn sx mc ms Q LA23 h c n x1 x2 x3 x4
def B_L_law_1698 (sn : Nat) (sx : Nat → Int32) (mc ms : Nat) (Q : Bool → Hp → Prop) (LA23 : Hp → Nat → Nat → Nat → Nat → Nat → Int32 → Prop) (h : Hp) (c : Nat) (n : Nat) (x1 : Nat) (x2 : Nat) (x3 : Nat) (x4 : Int32) : Prop :=
  B_L_law_2441 sn sx mc ms Q LA23 h c n x1 x2 x3 x4
def B_L_law_1742 (sn : Nat) (sx : Nat → Int32) (mc ms : Nat) (Q : Bool → Hp → Prop) (LA23 : Hp → Nat → Nat → Nat → Nat → Nat → Int32 → Prop) (h : Hp) (c : Nat) (n : Nat) (x1 : Nat) (x2 : Nat) (x3 : Nat) (x4 : Int32) : Prop :=
  B_L_law_2441 sn sx mc ms Q LA23 h c n x1 x2 x3 x4
def B_L_law_1810 (sn : Nat) (sx : Nat → Int32) (mc ms : Nat) (Q : Bool → Hp → Prop) (LA23 : Hp → Nat → Nat → Nat → Nat → Nat → Int32 → Prop) (h : Hp) (c : Nat) (n : Nat) (x1 : Nat) (x2 : Nat) (x3 : Nat) (x4 : Int32) : Prop :=
  B_L_law_2441 sn sx mc ms Q LA23 h c n x1 x2 x3 x4
def B_L_law_1866 (sn : Nat) (sx : Nat → Int32) (mc ms : Nat) (Q : Bool → Hp → Prop) (LA23 : Hp → Nat → Nat → Nat → Nat → Nat → Int32 → Prop) (h : Hp) (c : Nat) (n : Nat) (x1 : Nat) (x2 : Nat) (x3 : Nat) (x4 : Int32) : Prop :=
  B_L_law_2441 sn sx mc ms Q LA23 h c n x1 x2 x3 x4
def B_L_law_1934 (sn : Nat) (sx : Nat → Int32) (mc ms : Nat) (Q : Bool → Hp → Prop) (LA23 : Hp → Nat → Nat → Nat → Nat → Nat → Int32 → Prop) (h : Hp) (c : Nat) (n : Nat) (x1 : Nat) (x2 : Nat) (x3 : Nat) (x4 : Int32) : Prop :=
  B_L_law_2441 sn sx mc ms Q LA23 h c n x1 x2 x3 x4
def B_L_law_2002 (sn : Nat) (sx : Nat → Int32) (mc ms : Nat) (Q : Bool → Hp → Prop) (LA23 : Hp → Nat → Nat → Nat → Nat → Nat → Int32 → Prop) (h : Hp) (c : Nat) (n : Nat) (x1 : Nat) (x2 : Nat) (x3 : Nat) (x4 : Int32) : Prop :=
  B_L_law_2441 sn sx mc ms Q LA23 h c n x1 x2 x3 x4
def B_L_law_2058 (sn : Nat) (sx : Nat → Int32) (mc ms : Nat) (Q : Bool → Hp → Prop) (LA23 : Hp → Nat → Nat → Nat → Nat → Nat → Int32 → Prop) (h : Hp) (c : Nat) (n : Nat) (x1 : Nat) (x2 : Nat) (x3 : Nat) (x4 : Int32) : Prop :=
  B_L_law_2441 sn sx mc ms Q LA23 h c n x1 x2 x3 x4
def B_L_law_2126 (sn : Nat) (sx : Nat → Int32) (mc ms : Nat) (Q : Bool → Hp → Prop) (LA23 : Hp → Nat → Nat → Nat → Nat → Nat → Int32 → Prop) (h : Hp) (c : Nat) (n : Nat) (x1 : Nat) (x2 : Nat) (x3 : Nat) (x4 : Int32) : Prop :=
  B_L_law_2441 sn sx mc ms Q LA23 h c n x1 x2 x3 x4
def B_L_law_2226 (sn : Nat) (sx : Nat → Int32) (mc ms : Nat) (Q : Bool → Hp → Prop) (LA23 : Hp → Nat → Nat → Nat → Nat → Nat → Int32 → Prop) (h : Hp) (c : Nat) (n : Nat) (x1 : Nat) (x2 : Nat) (x3 : Nat) (x4 : Int32) : Prop :=
  B_L_law_2441 sn sx mc ms Q LA23 h c n x1 x2 x3 x4
def B_L_law_2326 (sn : Nat) (sx : Nat → Int32) (mc ms : Nat) (Q : Bool → Hp → Prop) (LA23 : Hp → Nat → Nat → Nat → Nat → Nat → Int32 → Prop) (h : Hp) (c : Nat) (n : Nat) (x1 : Nat) (x2 : Nat) (x3 : Nat) (x4 : Int32) : Prop :=
  B_L_law_2441 sn sx mc ms Q LA23 h c n x1 x2 x3 x4
def B_L_law_2382 (sn : Nat) (sx : Nat → Int32) (mc ms : Nat) (Q : Bool → Hp → Prop) (LA23 : Hp → Nat → Nat → Nat → Nat → Nat → Int32 → Prop) (h : Hp) (c : Nat) (n : Nat) (x1 : Nat) (x2 : Nat) (x3 : Nat) (x4 : Int32) : Prop :=
  B_L_law_2441 sn sx mc ms Q LA23 h c n x1 x2 x3 x4
def B_L_law_2438 (sn : Nat) (sx : Nat → Int32) (mc ms : Nat) (Q : Bool → Hp → Prop) (LA23 : Hp → Nat → Nat → Nat → Nat → Nat → Int32 → Prop) (h : Hp) (c : Nat) (n : Nat) (x1 : Nat) (x2 : Nat) (x3 : Nat) (x4 : Int32) : Prop :=
  B_L_law_2441 sn sx mc ms Q LA23 h c n x1 x2 x3 x4
def S_L_law_23 (sn : Nat) (sx : Nat → Int32) (mc ms : Nat) (Q : Bool → Hp → Prop) (LA23 : Hp → Nat → Nat → Nat → Nat → Nat → Int32 → Prop) (h : Hp) (c : Nat) (n : Nat) (x1 : Nat) (x2 : Nat) (x3 : Nat) (x4 : Int32) : Prop :=
  (((nI sn) - (6 : Int32)) < x4 → Q true h) ∧ (¬ ((nI sn) - (6 : Int32)) < x4 → vp_in x4 sn ∧ ((((sx x4.toNatClampNeg) &&& (63 : Int32)).toInt < 0 ∨ 34 < ((sx x4.toNatClampNeg) &&& (63 : Int32)).toInt → B_L_law_2441 sn sx mc ms Q LA23 h c n x1 x2 x3 x4) ∧ (((sx x4.toNatClampNeg) &&& (63 : Int32)) = (0 : Int32) → vp_in (x4 + (1 : Int32)) sn ∧ (∃ k6 k7 : Nat, c + k6 ≤ mc ∧ n + k7 ≤ ms ∧ (w_X0_append k6 k7 x1 (sx (x4 + (1 : Int32)).toNatClampNeg) x3 h (fun r4 h5 => vp_in (x4 + (1 : Int32)) sn ∧ (hasC h5 x2 2 ∧ (w_X3_append x2 (sx (x4 + (1 : Int32)).toNatClampNeg) h5 (fun r12 h13 => hasC h13 x2 2 ∧ (w_X3_thrown x2 h13 (fun r15 h16 => (r15 = r4 → (¬ r4 = 0 → B_L_law_249 sn sx mc ms Q LA23 h16 (c + k6) (n + k7) x1 x2 x3 x4) ∧ (r4 = 0 → rdL h16 x3 (0 : Int32) (fun v19 => ((lg_cmp v19 r12.toInt64) = 0 → B_L_law_249 sn sx mc ms Q LA23 h16 (c + k6) (n + k7) x1 x2 x3 x4) ∧ (¬ (lg_cmp v19 r12.toInt64) = 0 → Q false h16)))) ∧ (¬ r15 = r4 → Q false h16)))))))))) ∧ (((sx x4.toNatClampNeg) &&& (63 : Int32)) = (1 : Int32) → hasC h x1 0 ∧ (w_X1_clearText x1 h (fun r22 h23 => hasC h23 x2 2 ∧ (w_X3_clearText x2 h23 (fun r25 h26 => (r22 = r25 → B_L_law_2441 sn sx mc ms Q LA23 h26 c n x1 x2 x3 x4) ∧ (¬ r22 = r25 → Q false h26)))))) ∧ (((sx x4.toNatClampNeg) &&& (63 : Int32)) = (2 : Int32) → hasC h x1 0 ∧ (∃ k31 k32 : Nat, c + k31 ≤ mc ∧ n + k32 ≤ ms ∧ (w_X1_errorPosition k31 k32 x1 h (fun r29 h30 => hasC h30 x2 2 ∧ (w_X3_errorPosition x2 h30 (fun r36 h37 => (r29 = r36 → B_L_law_2441 sn sx mc ms Q LA23 h37 (c + k31) (n + k32) x1 x2 x3 x4) ∧ (¬ r29 = r36 → Q false h37))))))) ∧ (((sx x4.toNatClampNeg) &&& (63 : Int32)) = (3 : Int32) → ∃ k41 k42 : Nat, c + k41 ≤ mc ∧ n + k42 ≤ ms ∧ (w_X0_load k41 k42 x1 x3 h (fun r39 h40 => hasC h40 x2 2 ∧ (w_X3_load x2 h40 (fun r46 h47 => hasC h47 x2 2 ∧ (w_X3_thrown x2 h47 (fun r49 h50 => (r49 = r39 → (¬ r39 = 0 → B_L_law_319 sn sx mc ms Q LA23 h50 (c + k41) (n + k42) x1 x2 x3 x4) ∧ (r39 = 0 → rdL h50 x3 (0 : Int32) (fun v53 => ((lg_cmp v53 r46.toInt64) = 0 → B_L_law_319 sn sx mc ms Q LA23 h50 (c + k41) (n + k42) x1 x2 x3 x4) ∧ (¬ (lg_cmp v53 r46.toInt64) = 0 → Q false h50)))) ∧ (¬ r49 = r39 → Q false h50)))))))) ∧ (((sx x4.toNatClampNeg) &&& (63 : Int32)) = (4 : Int32) → vp_in (x4 + (1 : Int32)) sn ∧ (∃ k58 k59 : Nat, c + k58 ≤ mc ∧ n + k59 ≤ ms ∧ (w_X0_about k58 k59 x1 (sx (x4 + (1 : Int32)).toNatClampNeg) x3 h (fun r56 h57 => vp_in (x4 + (1 : Int32)) sn ∧ (hasC h57 x2 2 ∧ (w_X3_about x2 (sx (x4 + (1 : Int32)).toNatClampNeg) h57 (fun r64 h65 => hasC h65 x2 2 ∧ (w_X3_thrown x2 h65 (fun r67 h68 => (r67 = r56 → (¬ r56 = 0 → B_L_law_375 sn sx mc ms Q LA23 h68 (c + k58) (n + k59) x1 x2 x3 x4) ∧ (r56 = 0 → rdL h68 x3 (0 : Int32) (fun v71 => ((lg_cmp v71 r64.toInt64) = 0 → B_L_law_375 sn sx mc ms Q LA23 h68 (c + k58) (n + k59) x1 x2 x3 x4) ∧ (¬ (lg_cmp v71 r64.toInt64) = 0 → Q false h68)))) ∧ (¬ r67 = r56 → Q false h68)))))))))) ∧ (((sx x4.toNatClampNeg) &&& (63 : Int32)) = (5 : Int32) → vp_in (x4 + (1 : Int32)) sn ∧ (vp_in (x4 + (2 : Int32)) sn ∧ (∃ k77 k78 : Nat, c + k77 ≤ mc ∧ n + k78 ≤ ms ∧ (w_X0_ofReign k77 k78 x1 (sx (x4 + (1 : Int32)).toNatClampNeg) (sx (x4 + (2 : Int32)).toNatClampNeg) x3 h (fun r75 h76 => vp_in (x4 + (1 : Int32)) sn ∧ (vp_in (x4 + (2 : Int32)) sn ∧ (hasC h76 x2 2 ∧ (w_X3_ofReign x2 (sx (x4 + (1 : Int32)).toNatClampNeg) (sx (x4 + (2 : Int32)).toNatClampNeg) h76 (fun r84 h85 => hasC h85 x2 2 ∧ (w_X3_thrown x2 h85 (fun r87 h88 => (r87 = r75 → (¬ r75 = 0 → B_L_law_443 sn sx mc ms Q LA23 h88 (c + k77) (n + k78) x1 x2 x3 x4) ∧ (r75 = 0 → rdL h88 x3 (0 : Int32) (fun v91 => ((lg_cmp v91 r84.toInt64) = 0 → B_L_law_443 sn sx mc ms Q LA23 h88 (c + k77) (n + k78) x1 x2 x3 x4) ∧ (¬ (lg_cmp v91 r84.toInt64) = 0 → Q false h88)))) ∧ (¬ r87 = r75 → Q false h88)))))))))))) ∧ (((sx x4.toNatClampNeg) &&& (63 : Int32)) = (6 : Int32) → vp_in (x4 + (1 : Int32)) sn ∧ (vp_in (x4 + (2 : Int32)) sn ∧ (∃ k97 k98 : Nat, c + k97 ≤ mc ∧ n + k98 ≤ ms ∧ (w_X0_ofDie k97 k98 x1 (sx (x4 + (1 : Int32)).toNatClampNeg) (sx (x4 + (2 : Int32)).toNatClampNeg) x3 h (fun r95 h96 => vp_in (x4 + (1 : Int32)) sn ∧ (vp_in (x4 + (2 : Int32)) sn ∧ (hasC h96 x2 2 ∧ (w_X3_ofDie x2 (sx (x4 + (1 : Int32)).toNatClampNeg) (sx (x4 + (2 : Int32)).toNatClampNeg) h96 (fun r104 h105 => hasC h105 x2 2 ∧ (w_X3_thrown x2 h105 (fun r107 h108 => (r107 = r95 → (¬ r95 = 0 → B_L_law_511 sn sx mc ms Q LA23 h108 (c + k97) (n + k98) x1 x2 x3 x4) ∧ (r95 = 0 → rdL h108 x3 (0 : Int32) (fun v111 => ((lg_cmp v111 r104.toInt64) = 0 → B_L_law_511 sn sx mc ms Q LA23 h108 (c + k97) (n + k98) x1 x2 x3 x4) ∧ (¬ (lg_cmp v111 r104.toInt64) = 0 → Q false h108)))) ∧ (¬ r107 = r95 → Q false h108)))))))))))) ∧ (((sx x4.toNatClampNeg) &&& (63 : Int32)) = (7 : Int32) → vp_in (x4 + (1 : Int32)) sn ∧ (vp_in (x4 + (2 : Int32)) sn ∧ (∃ k117 k118 : Nat, c + k117 ≤ mc ∧ n + k118 ≤ ms ∧ (w_X0_crackYear k117 k118 x1 (sx (x4 + (1 : Int32)).toNatClampNeg) (sx (x4 + (2 : Int32)).toNatClampNeg) x3 h (fun r115 h116 => vp_in (x4 + (1 : Int32)) sn ∧ (vp_in (x4 + (2 : Int32)) sn ∧ (hasC h116 x2 2 ∧ (w_X3_crackYear x2 (sx (x4 + (1 : Int32)).toNatClampNeg) (sx (x4 + (2 : Int32)).toNatClampNeg) h116 (fun r124 h125 => hasC h125 x2 2 ∧ (w_X3_thrown x2 h125 (fun r127 h128 => (r127 = r115 → (¬ r115 = 0 → B_L_law_579 sn sx mc ms Q LA23 h128 (c + k117) (n + k118) x1 x2 x3 x4) ∧ (r115 = 0 → rdL h128 x3 (0 : Int32) (fun v131 => ((lg_cmp v131 r124.toInt64) = 0 → B_L_law_579 sn sx mc ms Q LA23 h128 (c + k117) (n + k118) x1 x2 x3 x4) ∧ (¬ (lg_cmp v131 r124.toInt64) = 0 → Q false h128)))) ∧ (¬ r127 = r115 → Q false h128)))))))))))) ∧ (((sx x4.toNatClampNeg) &&& (63 : Int32)) = (8 : Int32) → vp_in (x4 + (1 : Int32)) sn ∧ (vp_in (x4 + (2 : Int32)) sn ∧ (∃ k137 k138 : Nat, c + k137 ≤ mc ∧ n + k138 ≤ ms ∧ (w_X0_ofSeal k137 k138 x1 (sx (x4 + (1 : Int32)).toNatClampNeg) (sx (x4 + (2 : Int32)).toNatClampNeg) x3 h (fun r135 h136 => vp_in (x4 + (1 : Int32)) sn ∧ (vp_in (x4 + (2 : Int32)) sn ∧ (hasC h136 x2 2 ∧ (w_X3_ofSeal x2 (sx (x4 + (1 : Int32)).toNatClampNeg) (sx (x4 + (2 : Int32)).toNatClampNeg) h136 (fun r144 h145 => hasC h145 x2 2 ∧ (w_X3_thrown x2 h145 (fun r147 h148 => (r147 = r135 → (¬ r135 = 0 → B_L_law_647 sn sx mc ms Q LA23 h148 (c + k137) (n + k138) x1 x2 x3 x4) ∧ (r135 = 0 → rdL h148 x3 (0 : Int32) (fun v151 => ((lg_cmp v151 r144.toInt64) = 0 → B_L_law_647 sn sx mc ms Q LA23 h148 (c + k137) (n + k138) x1 x2 x3 x4) ∧ (¬ (lg_cmp v151 r144.toInt64) = 0 → Q false h148)))) ∧ (¬ r147 = r135 → Q false h148)))))))))))) ∧ (((sx x4.toNatClampNeg) &&& (63 : Int32)) = (9 : Int32) → vp_in (x4 + (1 : Int32)) sn ∧ (vp_in (x4 + (2 : Int32)) sn ∧ (∃ k157 k158 : Nat, c + k157 ≤ mc ∧ n + k158 ≤ ms ∧ (w_X0_dated k157 k158 x1 (sx (x4 + (1 : Int32)).toNatClampNeg) (sx (x4 + (2 : Int32)).toNatClampNeg) x3 h (fun r155 h156 => vp_in (x4 + (1 : Int32)) sn ∧ (vp_in (x4 + (2 : Int32)) sn ∧ (hasC h156 x2 2 ∧ (w_X3_dated x2 (sx (x4 + (1 : Int32)).toNatClampNeg) (sx (x4 + (2 : Int32)).toNatClampNeg) h156 (fun r164 h165 => hasC h165 x2 2 ∧ (w_X3_thrown x2 h165 (fun r167 h168 => (r167 = r155 → (¬ r155 = 0 → B_L_law_715 sn sx mc ms Q LA23 h168 (c + k157) (n + k158) x1 x2 x3 x4) ∧ (r155 = 0 → rdL h168 x3 (0 : Int32) (fun v171 => ((lg_cmp v171 r164.toInt64) = 0 → B_L_law_715 sn sx mc ms Q LA23 h168 (c + k157) (n + k158) x1 x2 x3 x4) ∧ (¬ (lg_cmp v171 r164.toInt64) = 0 → Q false h168)))) ∧ (¬ r167 = r155 → Q false h168)))))))))))) ∧ (((sx x4.toNatClampNeg) &&& (63 : Int32)) = (10 : Int32) → vp_in (x4 + (1 : Int32)) sn ∧ (vp_in (x4 + (2 : Int32)) sn ∧ (∃ k177 k178 : Nat, c + k177 ≤ mc ∧ n + k178 ≤ ms ∧ (w_X0_isPossible k177 k178 x1 (sx (x4 + (1 : Int32)).toNatClampNeg) (sx (x4 + (2 : Int32)).toNatClampNeg) x3 h (fun r175 h176 => vp_in (x4 + (1 : Int32)) sn ∧ (vp_in (x4 + (2 : Int32)) sn ∧ (hasC h176 x2 2 ∧ (w_X3_isPossible x2 (sx (x4 + (1 : Int32)).toNatClampNeg) (sx (x4 + (2 : Int32)).toNatClampNeg) h176 (fun r184 h185 => hasC h185 x2 2 ∧ (w_X3_thrown x2 h185 (fun r187 h188 => (r187 = r175 → (¬ r175 = 0 → B_L_law_790 sn sx mc ms Q LA23 h188 (c + k177) (n + k178) x1 x2 x3 x4) ∧ (r175 = 0 → rdL h188 x3 (0 : Int32) (fun v191 => ((lg_cmp v191 (if r184 = false then (0 : Int64) else (1 : Int64))) = 0 → B_L_law_790 sn sx mc ms Q LA23 h188 (c + k177) (n + k178) x1 x2 x3 x4) ∧ (¬ (lg_cmp v191 (if r184 = false then (0 : Int64) else (1 : Int64))) = 0 → Q false h188)))) ∧ (¬ r187 = r175 → Q false h188)))))))))))) ∧ (((sx x4.toNatClampNeg) &&& (63 : Int32)) = (11 : Int32) → vp_in (x4 + (1 : Int32)) sn ∧ (vp_in (x4 + (2 : Int32)) sn ∧ (∃ k199 k200 : Nat, c + k199 ≤ mc ∧ n + k200 ≤ ms ∧ (w_X0_charter k199 k200 x1 (sx (x4 + (1 : Int32)).toNatClampNeg) (sx (x4 + (2 : Int32)).toNatClampNeg) x3 h (fun r197 h198 => vp_in (x4 + (1 : Int32)) sn ∧ (vp_in (x4 + (2 : Int32)) sn ∧ (hasC h198 x2 2 ∧ (w_X3_charter x2 (sx (x4 + (1 : Int32)).toNatClampNeg) (sx (x4 + (2 : Int32)).toNatClampNeg) h198 (fun r206 h207 => hasC h207 x2 2 ∧ (w_X3_thrown x2 h207 (fun r209 h210 => (r209 = r197 → (¬ r197 = 0 → B_L_law_858 sn sx mc ms Q LA23 h210 (c + k199) (n + k200) x1 x2 x3 x4) ∧ (r197 = 0 → rdL h210 x3 (0 : Int32) (fun v213 => ((lg_cmp v213 r206.toInt64) = 0 → B_L_law_858 sn sx mc ms Q LA23 h210 (c + k199) (n + k200) x1 x2 x3 x4) ∧ (¬ (lg_cmp v213 r206.toInt64) = 0 → Q false h210)))) ∧ (¬ r209 = r197 → Q false h210)))))))))))) ∧ (((sx x4.toNatClampNeg) &&& (63 : Int32)) = (12 : Int32) → vp_in (x4 + (1 : Int32)) sn ∧ (vp_in (x4 + (2 : Int32)) sn ∧ (∃ k219 k220 : Nat, c + k219 ≤ mc ∧ n + k220 ≤ ms ∧ (w_X0_onShelf k219 k220 x1 (sx (x4 + (1 : Int32)).toNatClampNeg) (sx (x4 + (2 : Int32)).toNatClampNeg) x3 h (fun r217 h218 => vp_in (x4 + (1 : Int32)) sn ∧ (vp_in (x4 + (2 : Int32)) sn ∧ (hasC h218 x2 2 ∧ (w_X3_onShelf x2 (sx (x4 + (1 : Int32)).toNatClampNeg) (sx (x4 + (2 : Int32)).toNatClampNeg) h218 (fun r226 h227 => hasC h227 x2 2 ∧ (w_X3_thrown x2 h227 (fun r229 h230 => (r229 = r217 → (¬ r217 = 0 → B_L_law_926 sn sx mc ms Q LA23 h230 (c + k219) (n + k220) x1 x2 x3 x4) ∧ (r217 = 0 → rdL h230 x3 (0 : Int32) (fun v233 => ((lg_cmp v233 r226.toInt64) = 0 → B_L_law_926 sn sx mc ms Q LA23 h230 (c + k219) (n + k220) x1 x2 x3 x4) ∧ (¬ (lg_cmp v233 r226.toInt64) = 0 → Q false h230)))) ∧ (¬ r229 = r217 → Q false h230)))))))))))) ∧ (((sx x4.toNatClampNeg) &&& (63 : Int32)) = (13 : Int32) → vp_in (x4 + (1 : Int32)) sn ∧ (vp_in (x4 + (2 : Int32)) sn ∧ (∃ k239 k240 : Nat, c + k239 ≤ mc ∧ n + k240 ≤ ms ∧ (w_X0_reign k239 k240 x1 (sx (x4 + (1 : Int32)).toNatClampNeg) (sx (x4 + (2 : Int32)).toNatClampNeg) x3 h (fun r237 h238 => vp_in (x4 + (1 : Int32)) sn ∧ (vp_in (x4 + (2 : Int32)) sn ∧ (hasC h238 x2 2 ∧ (w_X3_reign x2 (sx (x4 + (1 : Int32)).toNatClampNeg) (sx (x4 + (2 : Int32)).toNatClampNeg) h238 (fun r246 h247 => hasC h247 x2 2 ∧ (w_X3_thrown x2 h247 (fun r249 h250 => (r249 = r237 → (¬ r237 = 0 → B_L_law_994 sn sx mc ms Q LA23 h250 (c + k239) (n + k240) x1 x2 x3 x4) ∧ (r237 = 0 → rdL h250 x3 (0 : Int32) (fun v253 => ((lg_cmp v253 r246.toInt64) = 0 → B_L_law_994 sn sx mc ms Q LA23 h250 (c + k239) (n + k240) x1 x2 x3 x4) ∧ (¬ (lg_cmp v253 r246.toInt64) = 0 → Q false h250)))) ∧ (¬ r249 = r237 → Q false h250)))))))))))) ∧ (((sx x4.toNatClampNeg) &&& (63 : Int32)) = (14 : Int32) → vp_in (x4 + (1 : Int32)) sn ∧ (vp_in (x4 + (2 : Int32)) sn ∧ (vp_in (x4 + (3 : Int32)) sn ∧ (∃ k260 k261 : Nat, c + k260 ≤ mc ∧ n + k261 ≤ ms ∧ (w_X0_die k260 k261 x1 (sx (x4 + (1 : Int32)).toNatClampNeg) (sx (x4 + (2 : Int32)).toNatClampNeg) (sx (x4 + (3 : Int32)).toNatClampNeg) x3 h (fun r258 h259 => vp_in (x4 + (1 : Int32)) sn ∧ (vp_in (x4 + (2 : Int32)) sn ∧ (vp_in (x4 + (3 : Int32)) sn ∧ (hasC h259 x2 2 ∧ (w_X3_die x2 (sx (x4 + (1 : Int32)).toNatClampNeg) (sx (x4 + (2 : Int32)).toNatClampNeg) (sx (x4 + (3 : Int32)).toNatClampNeg) h259 (fun r268 h269 => hasC h269 x2 2 ∧ (w_X3_thrown x2 h269 (fun r271 h272 => (r271 = r258 → (¬ r258 = 0 → B_L_law_1074 sn sx mc ms Q LA23 h272 (c + k260) (n + k261) x1 x2 x3 x4) ∧ (r258 = 0 → rdL h272 x3 (0 : Int32) (fun v275 => ((lg_cmp v275 r268.toInt64) = 0 → B_L_law_1074 sn sx mc ms Q LA23 h272 (c + k260) (n + k261) x1 x2 x3 x4) ∧ (¬ (lg_cmp v275 r268.toInt64) = 0 → Q false h272)))) ∧ (¬ r271 = r258 → Q false h272)))))))))))))) ∧ (((sx x4.toNatClampNeg) &&& (63 : Int32)) = (15 : Int32) → vp_in (x4 + (1 : Int32)) sn ∧ (vp_in (x4 + (2 : Int32)) sn ∧ (∃ k281 k282 : Nat, c + k281 ≤ mc ∧ n + k282 ≤ ms ∧ (w_X0_crack k281 k282 x1 (sx (x4 + (1 : Int32)).toNatClampNeg) (sx (x4 + (2 : Int32)).toNatClampNeg) x3 h (fun r279 h280 => vp_in (x4 + (1 : Int32)) sn ∧ (vp_in (x4 + (2 : Int32)) sn ∧ (hasC h280 x2 2 ∧ (w_X3_crack x2 (sx (x4 + (1 : Int32)).toNatClampNeg) (sx (x4 + (2 : Int32)).toNatClampNeg) h280 (fun r288 h289 => hasC h289 x2 2 ∧ (w_X3_thrown x2 h289 (fun r291 h292 => (r291 = r279 → (¬ r279 = 0 → B_L_law_1142 sn sx mc ms Q LA23 h292 (c + k281) (n + k282) x1 x2 x3 x4) ∧ (r279 = 0 → rdL h292 x3 (0 : Int32) (fun v295 => ((lg_cmp v295 r288.toInt64) = 0 → B_L_law_1142 sn sx mc ms Q LA23 h292 (c + k281) (n + k282) x1 x2 x3 x4) ∧ (¬ (lg_cmp v295 r288.toInt64) = 0 → Q false h292)))) ∧ (¬ r291 = r279 → Q false h292)))))))))))) ∧ (((sx x4.toNatClampNeg) &&& (63 : Int32)) = (16 : Int32) → vp_in (x4 + (1 : Int32)) sn ∧ (vp_in (x4 + (2 : Int32)) sn ∧ (vp_in (x4 + (3 : Int32)) sn ∧ (vp_in (x4 + (4 : Int32)) sn ∧ (vp_in (x4 + (5 : Int32)) sn ∧ (∃ k304 k305 : Nat, c + k304 ≤ mc ∧ n + k305 ≤ ms ∧ (w_X0_seal k304 k305 x1 (sx (x4 + (1 : Int32)).toNatClampNeg) (sx (x4 + (2 : Int32)).toNatClampNeg) (sx (x4 + (3 : Int32)).toNatClampNeg) (sx (x4 + (4 : Int32)).toNatClampNeg) (sx (x4 + (5 : Int32)).toNatClampNeg) x3 h (fun r302 h303 => vp_in (x4 + (1 : Int32)) sn ∧ (vp_in (x4 + (2 : Int32)) sn ∧ (vp_in (x4 + (3 : Int32)) sn ∧ (vp_in (x4 + (4 : Int32)) sn ∧ (vp_in (x4 + (5 : Int32)) sn ∧ (hasC h303 x2 2 ∧ (w_X3_seal x2 (sx (x4 + (1 : Int32)).toNatClampNeg) (sx (x4 + (2 : Int32)).toNatClampNeg) (sx (x4 + (3 : Int32)).toNatClampNeg) (sx (x4 + (4 : Int32)).toNatClampNeg) (sx (x4 + (5 : Int32)).toNatClampNeg) h303 (fun r314 h315 => hasC h315 x2 2 ∧ (w_X3_thrown x2 h315 (fun r317 h318 => (r317 = r302 → (¬ r302 = 0 → B_L_law_1246 sn sx mc ms Q LA23 h318 (c + k304) (n + k305) x1 x2 x3 x4) ∧ (r302 = 0 → rdL h318 x3 (0 : Int32) (fun v321 => ((lg_cmp v321 r314.toInt64) = 0 → B_L_law_1246 sn sx mc ms Q LA23 h318 (c + k304) (n + k305) x1 x2 x3 x4) ∧ (¬ (lg_cmp v321 r314.toInt64) = 0 → Q false h318)))) ∧ (¬ r317 = r302 → Q false h318)))))))))))))))))) ∧ (((sx x4.toNatClampNeg) &&& (63 : Int32)) = (17 : Int32) → vp_in (x4 + (1 : Int32)) sn ∧ (vp_in (x4 + (2 : Int32)) sn ∧ (∃ k327 k328 : Nat, c + k327 ≤ mc ∧ n + k328 ≤ ms ∧ (w_X0_show k327 k328 x1 (sx (x4 + (1 : Int32)).toNatClampNeg) (sx (x4 + (2 : Int32)).toNatClampNeg) x3 h (fun r325 h326 => vp_in (x4 + (1 : Int32)) sn ∧ (vp_in (x4 + (2 : Int32)) sn ∧ (hasC h326 x2 2 ∧ (w_X3_show x2 (sx (x4 + (1 : Int32)).toNatClampNeg) (sx (x4 + (2 : Int32)).toNatClampNeg) h326 (fun r334 h335 => hasC h335 x2 2 ∧ (w_X3_thrown x2 h335 (fun r337 h338 => (r337 = r325 → (¬ r325 = 0 → B_L_law_1314 sn sx mc ms Q LA23 h338 (c + k327) (n + k328) x1 x2 x3 x4) ∧ (r325 = 0 → rdL h338 x3 (0 : Int32) (fun v341 => ((lg_cmp v341 r334.toInt64) = 0 → B_L_law_1314 sn sx mc ms Q LA23 h338 (c + k327) (n + k328) x1 x2 x3 x4) ∧ (¬ (lg_cmp v341 r334.toInt64) = 0 → Q false h338)))) ∧ (¬ r337 = r325 → Q false h338)))))))))))) ∧ (((sx x4.toNatClampNeg) &&& (63 : Int32)) = (18 : Int32) → vp_in (x4 + (1 : Int32)) sn ∧ (vp_in (x4 + (2 : Int32)) sn ∧ (∃ k347 k348 : Nat, c + k347 ≤ mc ∧ n + k348 ≤ ms ∧ (w_X0_hang k347 k348 x1 (sx (x4 + (1 : Int32)).toNatClampNeg) (sx (x4 + (2 : Int32)).toNatClampNeg) x3 h (fun r345 h346 => vp_in (x4 + (1 : Int32)) sn ∧ (vp_in (x4 + (2 : Int32)) sn ∧ (hasC h346 x2 2 ∧ (w_X3_hang x2 (sx (x4 + (1 : Int32)).toNatClampNeg) (sx (x4 + (2 : Int32)).toNatClampNeg) h346 (fun r354 h355 => hasC h355 x2 2 ∧ (w_X3_thrown x2 h355 (fun r357 h358 => (r357 = r345 → (¬ r345 = 0 → B_L_law_1382 sn sx mc ms Q LA23 h358 (c + k347) (n + k348) x1 x2 x3 x4) ∧ (r345 = 0 → rdL h358 x3 (0 : Int32) (fun v361 => ((lg_cmp v361 r354.toInt64) = 0 → B_L_law_1382 sn sx mc ms Q LA23 h358 (c + k347) (n + k348) x1 x2 x3 x4) ∧ (¬ (lg_cmp v361 r354.toInt64) = 0 → Q false h358)))) ∧ (¬ r357 = r345 → Q false h358)))))))))))) ∧ (((sx x4.toNatClampNeg) &&& (63 : Int32)) = (19 : Int32) → vp_in (x4 + (1 : Int32)) sn ∧ (∃ k366 k367 : Nat, c + k366 ≤ mc ∧ n + k367 ≤ ms ∧ (w_X0_cut k366 k367 x1 (sx (x4 + (1 : Int32)).toNatClampNeg) x3 h (fun r364 h365 => vp_in (x4 + (1 : Int32)) sn ∧ (hasC h365 x2 2 ∧ (w_X3_cut x2 (sx (x4 + (1 : Int32)).toNatClampNeg) h365 (fun r372 h373 => hasC h373 x2 2 ∧ (w_X3_thrown x2 h373 (fun r375 h376 => (r375 = r364 → (¬ r364 = 0 → B_L_law_1438 sn sx mc ms Q LA23 h376 (c + k366) (n + k367) x1 x2 x3 x4) ∧ (r364 = 0 → rdL h376 x3 (0 : Int32) (fun v379 => ((lg_cmp v379 r372.toInt64) = 0 → B_L_law_1438 sn sx mc ms Q LA23 h376 (c + k366) (n + k367) x1 x2 x3 x4) ∧ (¬ (lg_cmp v379 r372.toInt64) = 0 → Q false h376)))) ∧ (¬ r375 = r364 → Q false h376)))))))))) ∧ (((sx x4.toNatClampNeg) &&& (63 : Int32)) = (20 : Int32) → vp_in (x4 + (1 : Int32)) sn ∧ (vp_in (x4 + (2 : Int32)) sn ∧ (vp_in (x4 + (3 : Int32)) sn ∧ (∃ k386 k387 : Nat, c + k386 ≤ mc ∧ n + k387 ≤ ms ∧ (w_X0_shelve k386 k387 x1 (sx (x4 + (1 : Int32)).toNatClampNeg) (sx (x4 + (2 : Int32)).toNatClampNeg) (sx (x4 + (3 : Int32)).toNatClampNeg) x3 h (fun r384 h385 => vp_in (x4 + (1 : Int32)) sn ∧ (vp_in (x4 + (2 : Int32)) sn ∧ (vp_in (x4 + (3 : Int32)) sn ∧ (hasC h385 x2 2 ∧ (w_X3_shelve x2 (sx (x4 + (1 : Int32)).toNatClampNeg) (sx (x4 + (2 : Int32)).toNatClampNeg) (sx (x4 + (3 : Int32)).toNatClampNeg) h385 (fun r394 h395 => hasC h395 x2 2 ∧ (w_X3_thrown x2 h395 (fun r397 h398 => (r397 = r384 → (¬ r384 = 0 → B_L_law_1518 sn sx mc ms Q LA23 h398 (c + k386) (n + k387) x1 x2 x3 x4) ∧ (r384 = 0 → rdL h398 x3 (0 : Int32) (fun v401 => ((lg_cmp v401 r394.toInt64) = 0 → B_L_law_1518 sn sx mc ms Q LA23 h398 (c + k386) (n + k387) x1 x2 x3 x4) ∧ (¬ (lg_cmp v401 r394.toInt64) = 0 → Q false h398)))) ∧ (¬ r397 = r384 → Q false h398)))))))))))))) ∧ (((sx x4.toNatClampNeg) &&& (63 : Int32)) = (21 : Int32) → vp_in (x4 + (1 : Int32)) sn ∧ (∃ k406 k407 : Nat, c + k406 ≤ mc ∧ n + k407 ≤ ms ∧ (w_X0_take k406 k407 x1 (sx (x4 + (1 : Int32)).toNatClampNeg) x3 h (fun r404 h405 => vp_in (x4 + (1 : Int32)) sn ∧ (hasC h405 x2 2 ∧ (w_X3_take x2 (sx (x4 + (1 : Int32)).toNatClampNeg) h405 (fun r412 h413 => hasC h413 x2 2 ∧ (w_X3_thrown x2 h413 (fun r415 h416 => (r415 = r404 → (¬ r404 = 0 → B_L_law_1574 sn sx mc ms Q LA23 h416 (c + k406) (n + k407) x1 x2 x3 x4) ∧ (r404 = 0 → rdL h416 x3 (0 : Int32) (fun v419 => ((lg_cmp v419 r412.toInt64) = 0 → B_L_law_1574 sn sx mc ms Q LA23 h416 (c + k406) (n + k407) x1 x2 x3 x4) ∧ (¬ (lg_cmp v419 r412.toInt64) = 0 → Q false h416)))) ∧ (¬ r415 = r404 → Q false h416)))))))))) ∧ (((sx x4.toNatClampNeg) &&& (63 : Int32)) = (22 : Int32) → vp_in (x4 + (1 : Int32)) sn ∧ (∃ k424 k425 : Nat, c + k424 ≤ mc ∧ n + k425 ≤ ms ∧ (w_X0_sort k424 k425 x1 (sx (x4 + (1 : Int32)).toNatClampNeg) x3 h (fun r422 h423 => vp_in (x4 + (1 : Int32)) sn ∧ (hasC h423 x2 2 ∧ (w_X3_sort x2 (sx (x4 + (1 : Int32)).toNatClampNeg) h423 (fun r430 h431 => hasC h431 x2 2 ∧ (w_X3_thrown x2 h431 (fun r433 h434 => (r433 = r422 → (¬ r422 = 0 → B_L_law_1630 sn sx mc ms Q LA23 h434 (c + k424) (n + k425) x1 x2 x3 x4) ∧ (r422 = 0 → rdL h434 x3 (0 : Int32) (fun v437 => ((lg_cmp v437 r430.toInt64) = 0 → B_L_law_1630 sn sx mc ms Q LA23 h434 (c + k424) (n + k425) x1 x2 x3 x4) ∧ (¬ (lg_cmp v437 r430.toInt64) = 0 → Q false h434)))) ∧ (¬ r433 = r422 → Q false h434)))))))))) ∧ (((sx x4.toNatClampNeg) &&& (63 : Int32)) = (23 : Int32) → vp_in (x4 + (1 : Int32)) sn ∧ (vp_in (x4 + (2 : Int32)) sn ∧ (∃ k443 k444 : Nat, c + k443 ≤ mc ∧ n + k444 ≤ ms ∧ (w_X0_set k443 k444 x1 (sx (x4 + (1 : Int32)).toNatClampNeg) (sx (x4 + (2 : Int32)).toNatClampNeg) x3 h (fun r441 h442 => vp_in (x4 + (1 : Int32)) sn ∧ (vp_in (x4 + (2 : Int32)) sn ∧ (hasC h442 x2 2 ∧ (w_X3_set x2 (sx (x4 + (1 : Int32)).toNatClampNeg) (sx (x4 + (2 : Int32)).toNatClampNeg) h442 (fun r450 h451 => hasC h451 x2 2 ∧ (w_X3_thrown x2 h451 (fun r453 h454 => (r453 = r441 → (¬ r441 = 0 → B_L_law_1698 sn sx mc ms Q LA23 h454 (c + k443) (n + k444) x1 x2 x3 x4) ∧ (r441 = 0 → rdL h454 x3 (0 : Int32) (fun v457 => ((lg_cmp v457 r450.toInt64) = 0 → B_L_law_1698 sn sx mc ms Q LA23 h454 (c + k443) (n + k444) x1 x2 x3 x4) ∧ (¬ (lg_cmp v457 r450.toInt64) = 0 → Q false h454)))) ∧ (¬ r453 = r441 → Q false h454)))))))))))) ∧ (((sx x4.toNatClampNeg) &&& (63 : Int32)) = (24 : Int32) → ∃ k461 k462 : Nat, c + k461 ≤ mc ∧ n + k462 ≤ ms ∧ (w_X0_undo k461 k462 x1 x3 h (fun r459 h460 => hasC h460 x2 2 ∧ (w_X3_undo x2 h460 (fun r466 h467 => hasC h467 x2 2 ∧ (w_X3_thrown x2 h467 (fun r469 h470 => (r469 = r459 → (¬ r459 = 0 → B_L_law_1742 sn sx mc ms Q LA23 h470 (c + k461) (n + k462) x1 x2 x3 x4) ∧ (r459 = 0 → rdL h470 x3 (0 : Int32) (fun v473 => ((lg_cmp v473 r466.toInt64) = 0 → B_L_law_1742 sn sx mc ms Q LA23 h470 (c + k461) (n + k462) x1 x2 x3 x4) ∧ (¬ (lg_cmp v473 r466.toInt64) = 0 → Q false h470)))) ∧ (¬ r469 = r459 → Q false h470)))))))) ∧ (((sx x4.toNatClampNeg) &&& (63 : Int32)) = (25 : Int32) → vp_in (x4 + (1 : Int32)) sn ∧ (vp_in (x4 + (2 : Int32)) sn ∧ (∃ k479 k480 : Nat, c + k479 ≤ mc ∧ n + k480 ≤ ms ∧ (w_X0_older k479 k480 x1 (sx (x4 + (1 : Int32)).toNatClampNeg) (sx (x4 + (2 : Int32)).toNatClampNeg) x3 h (fun r477 h478 => vp_in (x4 + (1 : Int32)) sn ∧ (vp_in (x4 + (2 : Int32)) sn ∧ (hasC h478 x2 2 ∧ (w_X3_older x2 (sx (x4 + (1 : Int32)).toNatClampNeg) (sx (x4 + (2 : Int32)).toNatClampNeg) h478 (fun r486 h487 => hasC h487 x2 2 ∧ (w_X3_thrown x2 h487 (fun r489 h490 => (r489 = r477 → (¬ r477 = 0 → B_L_law_1810 sn sx mc ms Q LA23 h490 (c + k479) (n + k480) x1 x2 x3 x4) ∧ (r477 = 0 → rdL h490 x3 (0 : Int32) (fun v493 => ((lg_cmp v493 r486.toInt64) = 0 → B_L_law_1810 sn sx mc ms Q LA23 h490 (c + k479) (n + k480) x1 x2 x3 x4) ∧ (¬ (lg_cmp v493 r486.toInt64) = 0 → Q false h490)))) ∧ (¬ r489 = r477 → Q false h490)))))))))))) ∧ (((sx x4.toNatClampNeg) &&& (63 : Int32)) = (26 : Int32) → vp_in (x4 + (1 : Int32)) sn ∧ (∃ k498 k499 : Nat, c + k498 ≤ mc ∧ n + k499 ≤ ms ∧ (w_X0_decides k498 k499 x1 (sx (x4 + (1 : Int32)).toNatClampNeg) x3 h (fun r496 h497 => vp_in (x4 + (1 : Int32)) sn ∧ (hasC h497 x2 2 ∧ (w_X3_decides x2 (sx (x4 + (1 : Int32)).toNatClampNeg) h497 (fun r504 h505 => hasC h505 x2 2 ∧ (w_X3_thrown x2 h505 (fun r507 h508 => (r507 = r496 → (¬ r496 = 0 → B_L_law_1866 sn sx mc ms Q LA23 h508 (c + k498) (n + k499) x1 x2 x3 x4) ∧ (r496 = 0 → rdL h508 x3 (0 : Int32) (fun v511 => ((lg_cmp v511 r504.toInt64) = 0 → B_L_law_1866 sn sx mc ms Q LA23 h508 (c + k498) (n + k499) x1 x2 x3 x4) ∧ (¬ (lg_cmp v511 r504.toInt64) = 0 → Q false h508)))) ∧ (¬ r507 = r496 → Q false h508)))))))))) ∧ (((sx x4.toNatClampNeg) &&& (63 : Int32)) = (27 : Int32) → vp_in (x4 + (1 : Int32)) sn ∧ (vp_in (x4 + (2 : Int32)) sn ∧ (∃ k517 k518 : Nat, c + k517 ≤ mc ∧ n + k518 ≤ ms ∧ (w_X0_ifCracked k517 k518 x1 (sx (x4 + (1 : Int32)).toNatClampNeg) (sx (x4 + (2 : Int32)).toNatClampNeg) x3 h (fun r515 h516 => vp_in (x4 + (1 : Int32)) sn ∧ (vp_in (x4 + (2 : Int32)) sn ∧ (hasC h516 x2 2 ∧ (w_X3_ifCracked x2 (sx (x4 + (1 : Int32)).toNatClampNeg) (sx (x4 + (2 : Int32)).toNatClampNeg) h516 (fun r524 h525 => hasC h525 x2 2 ∧ (w_X3_thrown x2 h525 (fun r527 h528 => (r527 = r515 → (¬ r515 = 0 → B_L_law_1934 sn sx mc ms Q LA23 h528 (c + k517) (n + k518) x1 x2 x3 x4) ∧ (r515 = 0 → rdL h528 x3 (0 : Int32) (fun v531 => ((lg_cmp v531 r524.toInt64) = 0 → B_L_law_1934 sn sx mc ms Q LA23 h528 (c + k517) (n + k518) x1 x2 x3 x4) ∧ (¬ (lg_cmp v531 r524.toInt64) = 0 → Q false h528)))) ∧ (¬ r527 = r515 → Q false h528)))))))))))) ∧ (((sx x4.toNatClampNeg) &&& (63 : Int32)) = (28 : Int32) → vp_in (x4 + (1 : Int32)) sn ∧ (vp_in (x4 + (2 : Int32)) sn ∧ (∃ k537 k538 : Nat, c + k537 ≤ mc ∧ n + k538 ≤ ms ∧ (w_X0_ifHung k537 k538 x1 (sx (x4 + (1 : Int32)).toNatClampNeg) (sx (x4 + (2 : Int32)).toNatClampNeg) x3 h (fun r535 h536 => vp_in (x4 + (1 : Int32)) sn ∧ (vp_in (x4 + (2 : Int32)) sn ∧ (hasC h536 x2 2 ∧ (w_X3_ifHung x2 (sx (x4 + (1 : Int32)).toNatClampNeg) (sx (x4 + (2 : Int32)).toNatClampNeg) h536 (fun r544 h545 => hasC h545 x2 2 ∧ (w_X3_thrown x2 h545 (fun r547 h548 => (r547 = r535 → (¬ r535 = 0 → B_L_law_2002 sn sx mc ms Q LA23 h548 (c + k537) (n + k538) x1 x2 x3 x4) ∧ (r535 = 0 → rdL h548 x3 (0 : Int32) (fun v551 => ((lg_cmp v551 r544.toInt64) = 0 → B_L_law_2002 sn sx mc ms Q LA23 h548 (c + k537) (n + k538) x1 x2 x3 x4) ∧ (¬ (lg_cmp v551 r544.toInt64) = 0 → Q false h548)))) ∧ (¬ r547 = r535 → Q false h548)))))))))))) ∧ (((sx x4.toNatClampNeg) &&& (63 : Int32)) = (29 : Int32) → vp_in (x4 + (1 : Int32)) sn ∧ (∃ k556 k557 : Nat, c + k556 ≤ mc ∧ n + k557 ≤ ms ∧ (w_X0_inYear k556 k557 x1 (sx (x4 + (1 : Int32)).toNatClampNeg) x3 h (fun r554 h555 => vp_in (x4 + (1 : Int32)) sn ∧ (hasC h555 x2 2 ∧ (w_X3_inYear x2 (sx (x4 + (1 : Int32)).toNatClampNeg) h555 (fun r562 h563 => hasC h563 x2 2 ∧ (w_X3_thrown x2 h563 (fun r565 h566 => (r565 = r554 → (¬ r554 = 0 → B_L_law_2058 sn sx mc ms Q LA23 h566 (c + k556) (n + k557) x1 x2 x3 x4) ∧ (r554 = 0 → rdL h566 x3 (0 : Int32) (fun v569 => ((lg_cmp v569 r562.toInt64) = 0 → B_L_law_2058 sn sx mc ms Q LA23 h566 (c + k556) (n + k557) x1 x2 x3 x4) ∧ (¬ (lg_cmp v569 r562.toInt64) = 0 → Q false h566)))) ∧ (¬ r565 = r554 → Q false h566)))))))))) ∧ (((sx x4.toNatClampNeg) &&& (63 : Int32)) = (30 : Int32) → vp_in (x4 + (1 : Int32)) sn ∧ (vp_in (x4 + (2 : Int32)) sn ∧ (∃ k575 k576 : Nat, c + k575 ≤ mc ∧ n + k576 ≤ ms ∧ (w_X0_leastBubbles k575 k576 x1 (sx (x4 + (1 : Int32)).toNatClampNeg) (sx (x4 + (2 : Int32)).toNatClampNeg) x3 h (fun r573 h574 => vp_in (x4 + (1 : Int32)) sn ∧ (vp_in (x4 + (2 : Int32)) sn ∧ (hasC h574 x2 2 ∧ (w_X3_leastBubbles x2 (sx (x4 + (1 : Int32)).toNatClampNeg) (sx (x4 + (2 : Int32)).toNatClampNeg) h574 (fun r582 h583 => hasC h583 x2 2 ∧ (w_X3_thrown x2 h583 (fun r585 h586 => (r585 = r573 → (¬ r573 = 0 → B_L_law_2126 sn sx mc ms Q LA23 h586 (c + k575) (n + k576) x1 x2 x3 x4) ∧ (r573 = 0 → rdL h586 x3 (0 : Int32) (fun v589 => ((lg_cmp v589 r582.toInt64) = 0 → B_L_law_2126 sn sx mc ms Q LA23 h586 (c + k575) (n + k576) x1 x2 x3 x4) ∧ (¬ (lg_cmp v589 r582.toInt64) = 0 → Q false h586)))) ∧ (¬ r585 = r573 → Q false h586)))))))))))) ∧ (((sx x4.toNatClampNeg) &&& (63 : Int32)) = (31 : Int32) → vp_in (x4 + (1 : Int32)) sn ∧ (vp_in (x4 + (2 : Int32)) sn ∧ (vp_in (x4 + (3 : Int32)) sn ∧ (∃ k596 k597 : Nat, c + k596 ≤ mc ∧ n + k597 ≤ ms ∧ (w_X0_runScript k596 k597 x1 (sx (x4 + (1 : Int32)).toNatClampNeg) ((((sx (x4 + (2 : Int32)).toNatClampNeg).toInt64) <<< ((32 : Int32).toInt64 &&& 63)) ||| (((sx (x4 + (3 : Int32)).toNatClampNeg).toInt64) &&& (4294967295 : Int64))) x3 h (fun r594 h595 => vp_in (x4 + (1 : Int32)) sn ∧ (vp_in (x4 + (2 : Int32)) sn ∧ (vp_in (x4 + (3 : Int32)) sn ∧ (hasC h595 x2 2 ∧ (w_X3_runScript x2 (sx (x4 + (1 : Int32)).toNatClampNeg) ((((sx (x4 + (2 : Int32)).toNatClampNeg).toInt64) <<< ((32 : Int32).toInt64 &&& 63)) ||| (((sx (x4 + (3 : Int32)).toNatClampNeg).toInt64) &&& (4294967295 : Int64))) h595 (fun r604 h605 => hasC h605 x2 2 ∧ (w_X3_thrown x2 h605 (fun r607 h608 => (r607 = r594 → (¬ r594 = 0 → B_L_law_2226 sn sx mc ms Q LA23 h608 (c + k596) (n + k597) x1 x2 x3 x4) ∧ (r594 = 0 → rdL h608 x3 (0 : Int32) (fun v611 => ((lg_cmp v611 r604.toInt64) = 0 → B_L_law_2226 sn sx mc ms Q LA23 h608 (c + k596) (n + k597) x1 x2 x3 x4) ∧ (¬ (lg_cmp v611 r604.toInt64) = 0 → Q false h608)))) ∧ (¬ r607 = r594 → Q false h608)))))))))))))) ∧ (((sx x4.toNatClampNeg) &&& (63 : Int32)) = (32 : Int32) → vp_in (x4 + (1 : Int32)) sn ∧ (vp_in (x4 + (2 : Int32)) sn ∧ (vp_in (x4 + (3 : Int32)) sn ∧ (∃ k618 k619 : Nat, c + k618 ≤ mc ∧ n + k619 ≤ ms ∧ (w_X0_simulate k618 k619 x1 ((((sx (x4 + (1 : Int32)).toNatClampNeg).toInt64) <<< ((32 : Int32).toInt64 &&& 63)) ||| (((sx (x4 + (2 : Int32)).toNatClampNeg).toInt64) &&& (4294967295 : Int64))) (sx (x4 + (3 : Int32)).toNatClampNeg) x3 h (fun r616 h617 => vp_in (x4 + (1 : Int32)) sn ∧ (vp_in (x4 + (2 : Int32)) sn ∧ (vp_in (x4 + (3 : Int32)) sn ∧ (hasC h617 x2 2 ∧ (w_X3_simulate x2 ((((sx (x4 + (1 : Int32)).toNatClampNeg).toInt64) <<< ((32 : Int32).toInt64 &&& 63)) ||| (((sx (x4 + (2 : Int32)).toNatClampNeg).toInt64) &&& (4294967295 : Int64))) (sx (x4 + (3 : Int32)).toNatClampNeg) h617 (fun r626 h627 => hasC h627 x2 2 ∧ (w_X3_thrown x2 h627 (fun r629 h630 => (r629 = r616 → (¬ r616 = 0 → B_L_law_2326 sn sx mc ms Q LA23 h630 (c + k618) (n + k619) x1 x2 x3 x4) ∧ (r616 = 0 → rdL h630 x3 (0 : Int32) (fun v633 => ((lg_cmp v633 r626.toInt64) = 0 → B_L_law_2326 sn sx mc ms Q LA23 h630 (c + k618) (n + k619) x1 x2 x3 x4) ∧ (¬ (lg_cmp v633 r626.toInt64) = 0 → Q false h630)))) ∧ (¬ r629 = r616 → Q false h630)))))))))))))) ∧ (((sx x4.toNatClampNeg) &&& (63 : Int32)) = (33 : Int32) → vp_in (x4 + (1 : Int32)) sn ∧ (∃ k638 k639 : Nat, c + k638 ≤ mc ∧ n + k639 ≤ ms ∧ (w_X0_save k638 k639 x1 (sx (x4 + (1 : Int32)).toNatClampNeg) x3 h (fun r636 h637 => vp_in (x4 + (1 : Int32)) sn ∧ (hasC h637 x2 2 ∧ (w_X3_save x2 (sx (x4 + (1 : Int32)).toNatClampNeg) h637 (fun r644 h645 => hasC h645 x2 2 ∧ (w_X3_thrown x2 h645 (fun r647 h648 => (r647 = r636 → (¬ r636 = 0 → B_L_law_2382 sn sx mc ms Q LA23 h648 (c + k638) (n + k639) x1 x2 x3 x4) ∧ (r636 = 0 → rdL h648 x3 (0 : Int32) (fun v651 => ((lg_cmp v651 r644.toInt64) = 0 → B_L_law_2382 sn sx mc ms Q LA23 h648 (c + k638) (n + k639) x1 x2 x3 x4) ∧ (¬ (lg_cmp v651 r644.toInt64) = 0 → Q false h648)))) ∧ (¬ r647 = r636 → Q false h648)))))))))) ∧ (((sx x4.toNatClampNeg) &&& (63 : Int32)) = (34 : Int32) → vp_in (x4 + (1 : Int32)) sn ∧ (∃ k656 k657 : Nat, c + k656 ≤ mc ∧ n + k657 ≤ ms ∧ (w_X0_restore k656 k657 x1 (sx (x4 + (1 : Int32)).toNatClampNeg) x3 h (fun r654 h655 => vp_in (x4 + (1 : Int32)) sn ∧ (hasC h655 x2 2 ∧ (w_X3_restore x2 (sx (x4 + (1 : Int32)).toNatClampNeg) h655 (fun r662 h663 => hasC h663 x2 2 ∧ (w_X3_thrown x2 h663 (fun r665 h666 => (r665 = r654 → (¬ r654 = 0 → B_L_law_2438 sn sx mc ms Q LA23 h666 (c + k656) (n + k657) x1 x2 x3 x4) ∧ (r654 = 0 → rdL h666 x3 (0 : Int32) (fun v669 => ((lg_cmp v669 r662.toInt64) = 0 → B_L_law_2438 sn sx mc ms Q LA23 h666 (c + k656) (n + k657) x1 x2 x3 x4) ∧ (¬ (lg_cmp v669 r662.toInt64) = 0 → Q false h666)))) ∧ (¬ r665 = r654 → Q false h666))))))))))))
def B_L_law_23 (sn : Nat) (sx : Nat → Int32) (mc ms : Nat) (Q : Bool → Hp → Prop) : Nat → Hp → Nat → Nat → Nat → Nat → Nat → Int32 → Prop
  | 0, _, _, _, _, _, _, _ => False
  | k + 1, h, c, n, x1, x2, x3, x4 => S_L_law_23 sn sx mc ms Q (B_L_law_23 sn sx mc ms Q k) h c n x1 x2 x3 x4
def w_L_law (sn : Nat) (sx : Nat → Int32) (mc ms : Nat)  (h : Hp) (Q : Bool → Hp → Prop) : Prop :=
  0 + 1 ≤ mc ∧ 0 + 7 ≤ ms ∧ (nwO h 0 [.null, .null, .null, .null, .int 0, .int 0, .int 0] (fun q674 h675 => ∃ k678 k679 : Nat, (0 + 1) + k678 ≤ mc ∧ (0 + 7) + k679 ≤ ms ∧ (w_X1_init k678 k679 q674 h675 (fun h677 => ((0 + 1) + k678) + 1 ≤ mc ∧ ((0 + 7) + k679) + 18 ≤ ms ∧ (nwO h677 2 [.int 0, .null, .null, .null, .null, .int 0, .null, .null, .null, .int 0, .int 0, .int 0, .int 0, .int 0, .int 0, .int 0, .int 0, .null] (fun q684 h685 => ∃ k688 k689 : Nat, (((0 + 1) + k678) + 1) + k688 ≤ mc ∧ (((0 + 7) + k679) + 18) + k689 ≤ ms ∧ (w_X3_init k688 k689 q684 h685 (fun h687 => ((((0 + 1) + k678) + 1) + k688) + 1 ≤ mc ∧ ((((0 + 7) + k679) + 18) + k689) + 1 ≤ ms ∧ (nwA h687 1 (1, .inr (.inl (fun _ => 0))) (fun q694 h695 => ∃ k9 : Nat, B_L_law_23 sn sx mc ms Q k9 h695 (((((0 + 1) + k678) + 1) + k688) + 1) (((((0 + 7) + k679) + 18) + k689) + 1) q674 q684 q694 (0 : Int32)))))))))))
theorem b_L_law_2441 {G : gT} {l : Launch} {V : Hp → Nat → Nat → Nat → List (Nat × Value) → List Value → Prop} {mc ms : Nat} {Q : Bool → Hp → Prop} (C : Cx G l V cL_law 7 RX0 16 370 mc ms (pZ Q) none (some .boolean) [] false) (hst : l.stackTraces = false) (LA23 : Hp → Nat → Nat → Nat → Nat → Nat → Int32 → Prop) (hLA23 : ∀ (h : Hp) (c : Nat) (n : Nat) (x1 : Nat) (x2 : Nat) (x3 : Nat) (x4 : Int32), c ≤ mc → n ≤ ms → LA23 h c n x1 x2 x3 x4 → V h c n 23 [(0, .ref (gSb G)), (1, .ref x1), (2, .ref x2), (3, .ref x3), (4, .int x4)] []) (h : Hp) (c : Nat) (n : Nat) (x1 : Nat) (x2 : Nat) (x3 : Nat) (x4 : Int32) (b1 : c ≤ mc) (b2 : n ≤ ms) (hw : B_L_law_2441 (gSn G) (gSx G) mc ms Q LA23 h c n x1 x2 x3 x4) : V h c n 2441 [(0, .ref (gSb G)), (1, .ref x1), (2, .ref x2), (3, .ref x3), (4, .int x4)] [] := by
  unfold B_L_law_2441 at hw
  refine r_iinc (v := x4 + (6 : Int32)) (L' := [(4, .int (x4 + (6 : Int32))), (0, .ref (gSb G)), (1, .ref x1), (2, .ref x2), (3, .ref x3)]) C (u := 4) rfl (by rfl) (by decide) rfl dL_law_2441 (r_goto (tgt := 23) C (by decide) dL_law_2444 ?_)
  exact r_sub C [1, 2, 3, 4, 0] rfl (hLA23 _ _ _ _ _ _ _ b1 b2 hw)
theorem b_L_law_249 {G : gT} {l : Launch} {V : Hp → Nat → Nat → Nat → List (Nat × Value) → List Value → Prop} {mc ms : Nat} {Q : Bool → Hp → Prop} (C : Cx G l V cL_law 7 RX0 16 370 mc ms (pZ Q) none (some .boolean) [] false) (hst : l.stackTraces = false) (LA23 : Hp → Nat → Nat → Nat → Nat → Nat → Int32 → Prop) (hLA23 : ∀ (h : Hp) (c : Nat) (n : Nat) (x1 : Nat) (x2 : Nat) (x3 : Nat) (x4 : Int32), c ≤ mc → n ≤ ms → LA23 h c n x1 x2 x3 x4 → V h c n 23 [(0, .ref (gSb G)), (1, .ref x1), (2, .ref x2), (3, .ref x3), (4, .int x4)] []) (h : Hp) (c : Nat) (n : Nat) (x1 : Nat) (x2 : Nat) (x3 : Nat) (x4 : Int32) (b1 : c ≤ mc) (b2 : n ≤ ms) (hw : B_L_law_249 (gSn G) (gSx G) mc ms Q LA23 h c n x1 x2 x3 x4) : V h c n 249 [(0, .ref (gSb G)), (1, .ref x1), (2, .ref x2), (3, .ref x3), (4, .int x4)] [] := by
  unfold B_L_law_249 at hw
  refine r_goto (tgt := 2441) C (by decide) dL_law_249 ?_
  exact r_sub C [0, 1, 2, 3, 4] rfl (b_L_law_2441 C hst LA23 hLA23 _ _ _ _ _ _ _ b1 b2 hw)
theorem b_L_law_319 {G : gT} {l : Launch} {V : Hp → Nat → Nat → Nat → List (Nat × Value) → List Value → Prop} {mc ms : Nat} {Q : Bool → Hp → Prop} (C : Cx G l V cL_law 7 RX0 16 370 mc ms (pZ Q) none (some .boolean) [] false) (hst : l.stackTraces = false) (LA23 : Hp → Nat → Nat → Nat → Nat → Nat → Int32 → Prop) (hLA23 : ∀ (h : Hp) (c : Nat) (n : Nat) (x1 : Nat) (x2 : Nat) (x3 : Nat) (x4 : Int32), c ≤ mc → n ≤ ms → LA23 h c n x1 x2 x3 x4 → V h c n 23 [(0, .ref (gSb G)), (1, .ref x1), (2, .ref x2), (3, .ref x3), (4, .int x4)] []) (h : Hp) (c : Nat) (n : Nat) (x1 : Nat) (x2 : Nat) (x3 : Nat) (x4 : Int32) (b1 : c ≤ mc) (b2 : n ≤ ms) (hw : B_L_law_319 (gSn G) (gSx G) mc ms Q LA23 h c n x1 x2 x3 x4) : V h c n 319 [(0, .ref (gSb G)), (1, .ref x1), (2, .ref x2), (3, .ref x3), (4, .int x4)] [] := by
  unfold B_L_law_319 at hw
  refine r_goto (tgt := 2441) C (by decide) dL_law_319 ?_
  exact r_sub C [0, 1, 2, 3, 4] rfl (b_L_law_2441 C hst LA23 hLA23 _ _ _ _ _ _ _ b1 b2 hw)
theorem b_L_law_375 {G : gT} {l : Launch} {V : Hp → Nat → Nat → Nat → List (Nat × Value) → List Value → Prop} {mc ms : Nat} {Q : Bool → Hp → Prop} (C : Cx G l V cL_law 7 RX0 16 370 mc ms (pZ Q) none (some .boolean) [] false) (hst : l.stackTraces = false) (LA23 : Hp → Nat → Nat → Nat → Nat → Nat → Int32 → Prop) (hLA23 : ∀ (h : Hp) (c : Nat) (n : Nat) (x1 : Nat) (x2 : Nat) (x3 : Nat) (x4 : Int32), c ≤ mc → n ≤ ms → LA23 h c n x1 x2 x3 x4 → V h c n 23 [(0, .ref (gSb G)), (1, .ref x1), (2, .ref x2), (3, .ref x3), (4, .int x4)] []) (h : Hp) (c : Nat) (n : Nat) (x1 : Nat) (x2 : Nat) (x3 : Nat) (x4 : Int32) (b1 : c ≤ mc) (b2 : n ≤ ms) (hw : B_L_law_375 (gSn G) (gSx G) mc ms Q LA23 h c n x1 x2 x3 x4) : V h c n 375 [(0, .ref (gSb G)), (1, .ref x1), (2, .ref x2), (3, .ref x3), (4, .int x4)] [] := by
  unfold B_L_law_375 at hw
  refine r_goto (tgt := 2441) C (by decide) dL_law_375 ?_
  exact r_sub C [0, 1, 2, 3, 4] rfl (b_L_law_2441 C hst LA23 hLA23 _ _ _ _ _ _ _ b1 b2 hw)
theorem b_L_law_443 {G : gT} {l : Launch} {V : Hp → Nat → Nat → Nat → List (Nat × Value) → List Value → Prop} {mc ms : Nat} {Q : Bool → Hp → Prop} (C : Cx G l V cL_law 7 RX0 16 370 mc ms (pZ Q) none (some .boolean) [] false) (hst : l.stackTraces = false) (LA23 : Hp → Nat → Nat → Nat → Nat → Nat → Int32 → Prop) (hLA23 : ∀ (h : Hp) (c : Nat) (n : Nat) (x1 : Nat) (x2 : Nat) (x3 : Nat) (x4 : Int32), c ≤ mc → n ≤ ms → LA23 h c n x1 x2 x3 x4 → V h c n 23 [(0, .ref (gSb G)), (1, .ref x1), (2, .ref x2), (3, .ref x3), (4, .int x4)] []) (h : Hp) (c : Nat) (n : Nat) (x1 : Nat) (x2 : Nat) (x3 : Nat) (x4 : Int32) (b1 : c ≤ mc) (b2 : n ≤ ms) (hw : B_L_law_443 (gSn G) (gSx G) mc ms Q LA23 h c n x1 x2 x3 x4) : V h c n 443 [(0, .ref (gSb G)), (1, .ref x1), (2, .ref x2), (3, .ref x3), (4, .int x4)] [] := by
  unfold B_L_law_443 at hw
  refine r_goto (tgt := 2441) C (by decide) dL_law_443 ?_
  exact r_sub C [0, 1, 2, 3, 4] rfl (b_L_law_2441 C hst LA23 hLA23 _ _ _ _ _ _ _ b1 b2 hw)
theorem b_L_law_511 {G : gT} {l : Launch} {V : Hp → Nat → Nat → Nat → List (Nat × Value) → List Value → Prop} {mc ms : Nat} {Q : Bool → Hp → Prop} (C : Cx G l V cL_law 7 RX0 16 370 mc ms (pZ Q) none (some .boolean) [] false) (hst : l.stackTraces = false) (LA23 : Hp → Nat → Nat → Nat → Nat → Nat → Int32 → Prop) (hLA23 : ∀ (h : Hp) (c : Nat) (n : Nat) (x1 : Nat) (x2 : Nat) (x3 : Nat) (x4 : Int32), c ≤ mc → n ≤ ms → LA23 h c n x1 x2 x3 x4 → V h c n 23 [(0, .ref (gSb G)), (1, .ref x1), (2, .ref x2), (3, .ref x3), (4, .int x4)] []) (h : Hp) (c : Nat) (n : Nat) (x1 : Nat) (x2 : Nat) (x3 : Nat) (x4 : Int32) (b1 : c ≤ mc) (b2 : n ≤ ms) (hw : B_L_law_511 (gSn G) (gSx G) mc ms Q LA23 h c n x1 x2 x3 x4) : V h c n 511 [(0, .ref (gSb G)), (1, .ref x1), (2, .ref x2), (3, .ref x3), (4, .int x4)] [] := by
  unfold B_L_law_511 at hw
  refine r_goto (tgt := 2441) C (by decide) dL_law_511 ?_
  exact r_sub C [0, 1, 2, 3, 4] rfl (b_L_law_2441 C hst LA23 hLA23 _ _ _ _ _ _ _ b1 b2 hw)
theorem b_L_law_579 {G : gT} {l : Launch} {V : Hp → Nat → Nat → Nat → List (Nat × Value) → List Value → Prop} {mc ms : Nat} {Q : Bool → Hp → Prop} (C : Cx G l V cL_law 7 RX0 16 370 mc ms (pZ Q) none (some .boolean) [] false) (hst : l.stackTraces = false) (LA23 : Hp → Nat → Nat → Nat → Nat → Nat → Int32 → Prop) (hLA23 : ∀ (h : Hp) (c : Nat) (n : Nat) (x1 : Nat) (x2 : Nat) (x3 : Nat) (x4 : Int32), c ≤ mc → n ≤ ms → LA23 h c n x1 x2 x3 x4 → V h c n 23 [(0, .ref (gSb G)), (1, .ref x1), (2, .ref x2), (3, .ref x3), (4, .int x4)] []) (h : Hp) (c : Nat) (n : Nat) (x1 : Nat) (x2 : Nat) (x3 : Nat) (x4 : Int32) (b1 : c ≤ mc) (b2 : n ≤ ms) (hw : B_L_law_579 (gSn G) (gSx G) mc ms Q LA23 h c n x1 x2 x3 x4) : V h c n 579 [(0, .ref (gSb G)), (1, .ref x1), (2, .ref x2), (3, .ref x3), (4, .int x4)] [] := by
  unfold B_L_law_579 at hw
  refine r_goto (tgt := 2441) C (by decide) dL_law_579 ?_
  exact r_sub C [0, 1, 2, 3, 4] rfl (b_L_law_2441 C hst LA23 hLA23 _ _ _ _ _ _ _ b1 b2 hw)
theorem b_L_law_647 {G : gT} {l : Launch} {V : Hp → Nat → Nat → Nat → List (Nat × Value) → List Value → Prop} {mc ms : Nat} {Q : Bool → Hp → Prop} (C : Cx G l V cL_law 7 RX0 16 370 mc ms (pZ Q) none (some .boolean) [] false) (hst : l.stackTraces = false) (LA23 : Hp → Nat → Nat → Nat → Nat → Nat → Int32 → Prop) (hLA23 : ∀ (h : Hp) (c : Nat) (n : Nat) (x1 : Nat) (x2 : Nat) (x3 : Nat) (x4 : Int32), c ≤ mc → n ≤ ms → LA23 h c n x1 x2 x3 x4 → V h c n 23 [(0, .ref (gSb G)), (1, .ref x1), (2, .ref x2), (3, .ref x3), (4, .int x4)] []) (h : Hp) (c : Nat) (n : Nat) (x1 : Nat) (x2 : Nat) (x3 : Nat) (x4 : Int32) (b1 : c ≤ mc) (b2 : n ≤ ms) (hw : B_L_law_647 (gSn G) (gSx G) mc ms Q LA23 h c n x1 x2 x3 x4) : V h c n 647 [(0, .ref (gSb G)), (1, .ref x1), (2, .ref x2), (3, .ref x3), (4, .int x4)] [] := by
  unfold B_L_law_647 at hw
  refine r_goto (tgt := 2441) C (by decide) dL_law_647 ?_
  exact r_sub C [0, 1, 2, 3, 4] rfl (b_L_law_2441 C hst LA23 hLA23 _ _ _ _ _ _ _ b1 b2 hw)
theorem b_L_law_715 {G : gT} {l : Launch} {V : Hp → Nat → Nat → Nat → List (Nat × Value) → List Value → Prop} {mc ms : Nat} {Q : Bool → Hp → Prop} (C : Cx G l V cL_law 7 RX0 16 370 mc ms (pZ Q) none (some .boolean) [] false) (hst : l.stackTraces = false) (LA23 : Hp → Nat → Nat → Nat → Nat → Nat → Int32 → Prop) (hLA23 : ∀ (h : Hp) (c : Nat) (n : Nat) (x1 : Nat) (x2 : Nat) (x3 : Nat) (x4 : Int32), c ≤ mc → n ≤ ms → LA23 h c n x1 x2 x3 x4 → V h c n 23 [(0, .ref (gSb G)), (1, .ref x1), (2, .ref x2), (3, .ref x3), (4, .int x4)] []) (h : Hp) (c : Nat) (n : Nat) (x1 : Nat) (x2 : Nat) (x3 : Nat) (x4 : Int32) (b1 : c ≤ mc) (b2 : n ≤ ms) (hw : B_L_law_715 (gSn G) (gSx G) mc ms Q LA23 h c n x1 x2 x3 x4) : V h c n 715 [(0, .ref (gSb G)), (1, .ref x1), (2, .ref x2), (3, .ref x3), (4, .int x4)] [] := by
  unfold B_L_law_715 at hw
  refine r_goto (tgt := 2441) C (by decide) dL_law_715 ?_
  exact r_sub C [0, 1, 2, 3, 4] rfl (b_L_law_2441 C hst LA23 hLA23 _ _ _ _ _ _ _ b1 b2 hw)
theorem b_L_law_790 {G : gT} {l : Launch} {V : Hp → Nat → Nat → Nat → List (Nat × Value) → List Value → Prop} {mc ms : Nat} {Q : Bool → Hp → Prop} (C : Cx G l V cL_law 7 RX0 16 370 mc ms (pZ Q) none (some .boolean) [] false) (hst : l.stackTraces = false) (LA23 : Hp → Nat → Nat → Nat → Nat → Nat → Int32 → Prop) (hLA23 : ∀ (h : Hp) (c : Nat) (n : Nat) (x1 : Nat) (x2 : Nat) (x3 : Nat) (x4 : Int32), c ≤ mc → n ≤ ms → LA23 h c n x1 x2 x3 x4 → V h c n 23 [(0, .ref (gSb G)), (1, .ref x1), (2, .ref x2), (3, .ref x3), (4, .int x4)] []) (h : Hp) (c : Nat) (n : Nat) (x1 : Nat) (x2 : Nat) (x3 : Nat) (x4 : Int32) (b1 : c ≤ mc) (b2 : n ≤ ms) (hw : B_L_law_790 (gSn G) (gSx G) mc ms Q LA23 h c n x1 x2 x3 x4) : V h c n 790 [(0, .ref (gSb G)), (1, .ref x1), (2, .ref x2), (3, .ref x3), (4, .int x4)] [] := by
  unfold B_L_law_790 at hw
  refine r_goto (tgt := 2441) C (by decide) dL_law_790 ?_
  exact r_sub C [0, 1, 2, 3, 4] rfl (b_L_law_2441 C hst LA23 hLA23 _ _ _ _ _ _ _ b1 b2 hw)
theorem b_L_law_858 {G : gT} {l : Launch} {V : Hp → Nat → Nat → Nat → List (Nat × Value) → List Value → Prop} {mc ms : Nat} {Q : Bool → Hp → Prop} (C : Cx G l V cL_law 7 RX0 16 370 mc ms (pZ Q) none (some .boolean) [] false) (hst : l.stackTraces = false) (LA23 : Hp → Nat → Nat → Nat → Nat → Nat → Int32 → Prop) (hLA23 : ∀ (h : Hp) (c : Nat) (n : Nat) (x1 : Nat) (x2 : Nat) (x3 : Nat) (x4 : Int32), c ≤ mc → n ≤ ms → LA23 h c n x1 x2 x3 x4 → V h c n 23 [(0, .ref (gSb G)), (1, .ref x1), (2, .ref x2), (3, .ref x3), (4, .int x4)] []) (h : Hp) (c : Nat) (n : Nat) (x1 : Nat) (x2 : Nat) (x3 : Nat) (x4 : Int32) (b1 : c ≤ mc) (b2 : n ≤ ms) (hw : B_L_law_858 (gSn G) (gSx G) mc ms Q LA23 h c n x1 x2 x3 x4) : V h c n 858 [(0, .ref (gSb G)), (1, .ref x1), (2, .ref x2), (3, .ref x3), (4, .int x4)] [] := by
  unfold B_L_law_858 at hw
  refine r_goto (tgt := 2441) C (by decide) dL_law_858 ?_
  exact r_sub C [0, 1, 2, 3, 4] rfl (b_L_law_2441 C hst LA23 hLA23 _ _ _ _ _ _ _ b1 b2 hw)
theorem b_L_law_926 {G : gT} {l : Launch} {V : Hp → Nat → Nat → Nat → List (Nat × Value) → List Value → Prop} {mc ms : Nat} {Q : Bool → Hp → Prop} (C : Cx G l V cL_law 7 RX0 16 370 mc ms (pZ Q) none (some .boolean) [] false) (hst : l.stackTraces = false) (LA23 : Hp → Nat → Nat → Nat → Nat → Nat → Int32 → Prop) (hLA23 : ∀ (h : Hp) (c : Nat) (n : Nat) (x1 : Nat) (x2 : Nat) (x3 : Nat) (x4 : Int32), c ≤ mc → n ≤ ms → LA23 h c n x1 x2 x3 x4 → V h c n 23 [(0, .ref (gSb G)), (1, .ref x1), (2, .ref x2), (3, .ref x3), (4, .int x4)] []) (h : Hp) (c : Nat) (n : Nat) (x1 : Nat) (x2 : Nat) (x3 : Nat) (x4 : Int32) (b1 : c ≤ mc) (b2 : n ≤ ms) (hw : B_L_law_926 (gSn G) (gSx G) mc ms Q LA23 h c n x1 x2 x3 x4) : V h c n 926 [(0, .ref (gSb G)), (1, .ref x1), (2, .ref x2), (3, .ref x3), (4, .int x4)] [] := by
  unfold B_L_law_926 at hw
  refine r_goto (tgt := 2441) C (by decide) dL_law_926 ?_
  exact r_sub C [0, 1, 2, 3, 4] rfl (b_L_law_2441 C hst LA23 hLA23 _ _ _ _ _ _ _ b1 b2 hw)
theorem b_L_law_994 {G : gT} {l : Launch} {V : Hp → Nat → Nat → Nat → List (Nat × Value) → List Value → Prop} {mc ms : Nat} {Q : Bool → Hp → Prop} (C : Cx G l V cL_law 7 RX0 16 370 mc ms (pZ Q) none (some .boolean) [] false) (hst : l.stackTraces = false) (LA23 : Hp → Nat → Nat → Nat → Nat → Nat → Int32 → Prop) (hLA23 : ∀ (h : Hp) (c : Nat) (n : Nat) (x1 : Nat) (x2 : Nat) (x3 : Nat) (x4 : Int32), c ≤ mc → n ≤ ms → LA23 h c n x1 x2 x3 x4 → V h c n 23 [(0, .ref (gSb G)), (1, .ref x1), (2, .ref x2), (3, .ref x3), (4, .int x4)] []) (h : Hp) (c : Nat) (n : Nat) (x1 : Nat) (x2 : Nat) (x3 : Nat) (x4 : Int32) (b1 : c ≤ mc) (b2 : n ≤ ms) (hw : B_L_law_994 (gSn G) (gSx G) mc ms Q LA23 h c n x1 x2 x3 x4) : V h c n 994 [(0, .ref (gSb G)), (1, .ref x1), (2, .ref x2), (3, .ref x3), (4, .int x4)] [] := by
  unfold B_L_law_994 at hw
  refine r_goto (tgt := 2441) C (by decide) dL_law_994 ?_
  exact r_sub C [0, 1, 2, 3, 4] rfl (b_L_law_2441 C hst LA23 hLA23 _ _ _ _ _ _ _ b1 b2 hw)
theorem b_L_law_1074 {G : gT} {l : Launch} {V : Hp → Nat → Nat → Nat → List (Nat × Value) → List Value → Prop} {mc ms : Nat} {Q : Bool → Hp → Prop} (C : Cx G l V cL_law 7 RX0 16 370 mc ms (pZ Q) none (some .boolean) [] false) (hst : l.stackTraces = false) (LA23 : Hp → Nat → Nat → Nat → Nat → Nat → Int32 → Prop) (hLA23 : ∀ (h : Hp) (c : Nat) (n : Nat) (x1 : Nat) (x2 : Nat) (x3 : Nat) (x4 : Int32), c ≤ mc → n ≤ ms → LA23 h c n x1 x2 x3 x4 → V h c n 23 [(0, .ref (gSb G)), (1, .ref x1), (2, .ref x2), (3, .ref x3), (4, .int x4)] []) (h : Hp) (c : Nat) (n : Nat) (x1 : Nat) (x2 : Nat) (x3 : Nat) (x4 : Int32) (b1 : c ≤ mc) (b2 : n ≤ ms) (hw : B_L_law_1074 (gSn G) (gSx G) mc ms Q LA23 h c n x1 x2 x3 x4) : V h c n 1074 [(0, .ref (gSb G)), (1, .ref x1), (2, .ref x2), (3, .ref x3), (4, .int x4)] [] := by
  unfold B_L_law_1074 at hw
  refine r_goto (tgt := 2441) C (by decide) dL_law_1074 ?_
  exact r_sub C [0, 1, 2, 3, 4] rfl (b_L_law_2441 C hst LA23 hLA23 _ _ _ _ _ _ _ b1 b2 hw)
theorem b_L_law_1142 {G : gT} {l : Launch} {V : Hp → Nat → Nat → Nat → List (Nat × Value) → List Value → Prop} {mc ms : Nat} {Q : Bool → Hp → Prop} (C : Cx G l V cL_law 7 RX0 16 370 mc ms (pZ Q) none (some .boolean) [] false) (hst : l.stackTraces = false) (LA23 : Hp → Nat → Nat → Nat → Nat → Nat → Int32 → Prop) (hLA23 : ∀ (h : Hp) (c : Nat) (n : Nat) (x1 : Nat) (x2 : Nat) (x3 : Nat) (x4 : Int32), c ≤ mc → n ≤ ms → LA23 h c n x1 x2 x3 x4 → V h c n 23 [(0, .ref (gSb G)), (1, .ref x1), (2, .ref x2), (3, .ref x3), (4, .int x4)] []) (h : Hp) (c : Nat) (n : Nat) (x1 : Nat) (x2 : Nat) (x3 : Nat) (x4 : Int32) (b1 : c ≤ mc) (b2 : n ≤ ms) (hw : B_L_law_1142 (gSn G) (gSx G) mc ms Q LA23 h c n x1 x2 x3 x4) : V h c n 1142 [(0, .ref (gSb G)), (1, .ref x1), (2, .ref x2), (3, .ref x3), (4, .int x4)] [] := by
  unfold B_L_law_1142 at hw
  refine r_goto (tgt := 2441) C (by decide) dL_law_1142 ?_
  exact r_sub C [0, 1, 2, 3, 4] rfl (b_L_law_2441 C hst LA23 hLA23 _ _ _ _ _ _ _ b1 b2 hw)
theorem b_L_law_1246 {G : gT} {l : Launch} {V : Hp → Nat → Nat → Nat → List (Nat × Value) → List Value → Prop} {mc ms : Nat} {Q : Bool → Hp → Prop} (C : Cx G l V cL_law 7 RX0 16 370 mc ms (pZ Q) none (some .boolean) [] false) (hst : l.stackTraces = false) (LA23 : Hp → Nat → Nat → Nat → Nat → Nat → Int32 → Prop) (hLA23 : ∀ (h : Hp) (c : Nat) (n : Nat) (x1 : Nat) (x2 : Nat) (x3 : Nat) (x4 : Int32), c ≤ mc → n ≤ ms → LA23 h c n x1 x2 x3 x4 → V h c n 23 [(0, .ref (gSb G)), (1, .ref x1), (2, .ref x2), (3, .ref x3), (4, .int x4)] []) (h : Hp) (c : Nat) (n : Nat) (x1 : Nat) (x2 : Nat) (x3 : Nat) (x4 : Int32) (b1 : c ≤ mc) (b2 : n ≤ ms) (hw : B_L_law_1246 (gSn G) (gSx G) mc ms Q LA23 h c n x1 x2 x3 x4) : V h c n 1246 [(0, .ref (gSb G)), (1, .ref x1), (2, .ref x2), (3, .ref x3), (4, .int x4)] [] := by
  unfold B_L_law_1246 at hw
  refine r_goto (tgt := 2441) C (by decide) dL_law_1246 ?_
  exact r_sub C [0, 1, 2, 3, 4] rfl (b_L_law_2441 C hst LA23 hLA23 _ _ _ _ _ _ _ b1 b2 hw)
theorem b_L_law_1314 {G : gT} {l : Launch} {V : Hp → Nat → Nat → Nat → List (Nat × Value) → List Value → Prop} {mc ms : Nat} {Q : Bool → Hp → Prop} (C : Cx G l V cL_law 7 RX0 16 370 mc ms (pZ Q) none (some .boolean) [] false) (hst : l.stackTraces = false) (LA23 : Hp → Nat → Nat → Nat → Nat → Nat → Int32 → Prop) (hLA23 : ∀ (h : Hp) (c : Nat) (n : Nat) (x1 : Nat) (x2 : Nat) (x3 : Nat) (x4 : Int32), c ≤ mc → n ≤ ms → LA23 h c n x1 x2 x3 x4 → V h c n 23 [(0, .ref (gSb G)), (1, .ref x1), (2, .ref x2), (3, .ref x3), (4, .int x4)] []) (h : Hp) (c : Nat) (n : Nat) (x1 : Nat) (x2 : Nat) (x3 : Nat) (x4 : Int32) (b1 : c ≤ mc) (b2 : n ≤ ms) (hw : B_L_law_1314 (gSn G) (gSx G) mc ms Q LA23 h c n x1 x2 x3 x4) : V h c n 1314 [(0, .ref (gSb G)), (1, .ref x1), (2, .ref x2), (3, .ref x3), (4, .int x4)] [] := by
  unfold B_L_law_1314 at hw
  refine r_goto (tgt := 2441) C (by decide) dL_law_1314 ?_
  exact r_sub C [0, 1, 2, 3, 4] rfl (b_L_law_2441 C hst LA23 hLA23 _ _ _ _ _ _ _ b1 b2 hw)
theorem b_L_law_1382 {G : gT} {l : Launch} {V : Hp → Nat → Nat → Nat → List (Nat × Value) → List Value → Prop} {mc ms : Nat} {Q : Bool → Hp → Prop} (C : Cx G l V cL_law 7 RX0 16 370 mc ms (pZ Q) none (some .boolean) [] false) (hst : l.stackTraces = false) (LA23 : Hp → Nat → Nat → Nat → Nat → Nat → Int32 → Prop) (hLA23 : ∀ (h : Hp) (c : Nat) (n : Nat) (x1 : Nat) (x2 : Nat) (x3 : Nat) (x4 : Int32), c ≤ mc → n ≤ ms → LA23 h c n x1 x2 x3 x4 → V h c n 23 [(0, .ref (gSb G)), (1, .ref x1), (2, .ref x2), (3, .ref x3), (4, .int x4)] []) (h : Hp) (c : Nat) (n : Nat) (x1 : Nat) (x2 : Nat) (x3 : Nat) (x4 : Int32) (b1 : c ≤ mc) (b2 : n ≤ ms) (hw : B_L_law_1382 (gSn G) (gSx G) mc ms Q LA23 h c n x1 x2 x3 x4) : V h c n 1382 [(0, .ref (gSb G)), (1, .ref x1), (2, .ref x2), (3, .ref x3), (4, .int x4)] [] := by
  unfold B_L_law_1382 at hw
  refine r_goto (tgt := 2441) C (by decide) dL_law_1382 ?_
  exact r_sub C [0, 1, 2, 3, 4] rfl (b_L_law_2441 C hst LA23 hLA23 _ _ _ _ _ _ _ b1 b2 hw)
theorem b_L_law_1438 {G : gT} {l : Launch} {V : Hp → Nat → Nat → Nat → List (Nat × Value) → List Value → Prop} {mc ms : Nat} {Q : Bool → Hp → Prop} (C : Cx G l V cL_law 7 RX0 16 370 mc ms (pZ Q) none (some .boolean) [] false) (hst : l.stackTraces = false) (LA23 : Hp → Nat → Nat → Nat → Nat → Nat → Int32 → Prop) (hLA23 : ∀ (h : Hp) (c : Nat) (n : Nat) (x1 : Nat) (x2 : Nat) (x3 : Nat) (x4 : Int32), c ≤ mc → n ≤ ms → LA23 h c n x1 x2 x3 x4 → V h c n 23 [(0, .ref (gSb G)), (1, .ref x1), (2, .ref x2), (3, .ref x3), (4, .int x4)] []) (h : Hp) (c : Nat) (n : Nat) (x1 : Nat) (x2 : Nat) (x3 : Nat) (x4 : Int32) (b1 : c ≤ mc) (b2 : n ≤ ms) (hw : B_L_law_1438 (gSn G) (gSx G) mc ms Q LA23 h c n x1 x2 x3 x4) : V h c n 1438 [(0, .ref (gSb G)), (1, .ref x1), (2, .ref x2), (3, .ref x3), (4, .int x4)] [] := by
  unfold B_L_law_1438 at hw
  refine r_goto (tgt := 2441) C (by decide) dL_law_1438 ?_
  exact r_sub C [0, 1, 2, 3, 4] rfl (b_L_law_2441 C hst LA23 hLA23 _ _ _ _ _ _ _ b1 b2 hw)
theorem b_L_law_1518 {G : gT} {l : Launch} {V : Hp → Nat → Nat → Nat → List (Nat × Value) → List Value → Prop} {mc ms : Nat} {Q : Bool → Hp → Prop} (C : Cx G l V cL_law 7 RX0 16 370 mc ms (pZ Q) none (some .boolean) [] false) (hst : l.stackTraces = false) (LA23 : Hp → Nat → Nat → Nat → Nat → Nat → Int32 → Prop) (hLA23 : ∀ (h : Hp) (c : Nat) (n : Nat) (x1 : Nat) (x2 : Nat) (x3 : Nat) (x4 : Int32), c ≤ mc → n ≤ ms → LA23 h c n x1 x2 x3 x4 → V h c n 23 [(0, .ref (gSb G)), (1, .ref x1), (2, .ref x2), (3, .ref x3), (4, .int x4)] []) (h : Hp) (c : Nat) (n : Nat) (x1 : Nat) (x2 : Nat) (x3 : Nat) (x4 : Int32) (b1 : c ≤ mc) (b2 : n ≤ ms) (hw : B_L_law_1518 (gSn G) (gSx G) mc ms Q LA23 h c n x1 x2 x3 x4) : V h c n 1518 [(0, .ref (gSb G)), (1, .ref x1), (2, .ref x2), (3, .ref x3), (4, .int x4)] [] := by
  unfold B_L_law_1518 at hw
  refine r_goto (tgt := 2441) C (by decide) dL_law_1518 ?_
  exact r_sub C [0, 1, 2, 3, 4] rfl (b_L_law_2441 C hst LA23 hLA23 _ _ _ _ _ _ _ b1 b2 hw)
theorem b_L_law_1574 {G : gT} {l : Launch} {V : Hp → Nat → Nat → Nat → List (Nat × Value) → List Value → Prop} {mc ms : Nat} {Q : Bool → Hp → Prop} (C : Cx G l V cL_law 7 RX0 16 370 mc ms (pZ Q) none (some .boolean) [] false) (hst : l.stackTraces = false) (LA23 : Hp → Nat → Nat → Nat → Nat → Nat → Int32 → Prop) (hLA23 : ∀ (h : Hp) (c : Nat) (n : Nat) (x1 : Nat) (x2 : Nat) (x3 : Nat) (x4 : Int32), c ≤ mc → n ≤ ms → LA23 h c n x1 x2 x3 x4 → V h c n 23 [(0, .ref (gSb G)), (1, .ref x1), (2, .ref x2), (3, .ref x3), (4, .int x4)] []) (h : Hp) (c : Nat) (n : Nat) (x1 : Nat) (x2 : Nat) (x3 : Nat) (x4 : Int32) (b1 : c ≤ mc) (b2 : n ≤ ms) (hw : B_L_law_1574 (gSn G) (gSx G) mc ms Q LA23 h c n x1 x2 x3 x4) : V h c n 1574 [(0, .ref (gSb G)), (1, .ref x1), (2, .ref x2), (3, .ref x3), (4, .int x4)] [] := by
  unfold B_L_law_1574 at hw
  refine r_goto (tgt := 2441) C (by decide) dL_law_1574 ?_
  exact r_sub C [0, 1, 2, 3, 4] rfl (b_L_law_2441 C hst LA23 hLA23 _ _ _ _ _ _ _ b1 b2 hw)
theorem b_L_law_1630 {G : gT} {l : Launch} {V : Hp → Nat → Nat → Nat → List (Nat × Value) → List Value → Prop} {mc ms : Nat} {Q : Bool → Hp → Prop} (C : Cx G l V cL_law 7 RX0 16 370 mc ms (pZ Q) none (some .boolean) [] false) (hst : l.stackTraces = false) (LA23 : Hp → Nat → Nat → Nat → Nat → Nat → Int32 → Prop) (hLA23 : ∀ (h : Hp) (c : Nat) (n : Nat) (x1 : Nat) (x2 : Nat) (x3 : Nat) (x4 : Int32), c ≤ mc → n ≤ ms → LA23 h c n x1 x2 x3 x4 → V h c n 23 [(0, .ref (gSb G)), (1, .ref x1), (2, .ref x2), (3, .ref x3), (4, .int x4)] []) (h : Hp) (c : Nat) (n : Nat) (x1 : Nat) (x2 : Nat) (x3 : Nat) (x4 : Int32) (b1 : c ≤ mc) (b2 : n ≤ ms) (hw : B_L_law_1630 (gSn G) (gSx G) mc ms Q LA23 h c n x1 x2 x3 x4) : V h c n 1630 [(0, .ref (gSb G)), (1, .ref x1), (2, .ref x2), (3, .ref x3), (4, .int x4)] [] := by
  unfold B_L_law_1630 at hw
  refine r_goto (tgt := 2441) C (by decide) dL_law_1630 ?_
  exact r_sub C [0, 1, 2, 3, 4] rfl (b_L_law_2441 C hst LA23 hLA23 _ _ _ _ _ _ _ b1 b2 hw)
theorem b_L_law_1698 {G : gT} {l : Launch} {V : Hp → Nat → Nat → Nat → List (Nat × Value) → List Value → Prop} {mc ms : Nat} {Q : Bool → Hp → Prop} (C : Cx G l V cL_law 7 RX0 16 370 mc ms (pZ Q) none (some .boolean) [] false) (hst : l.stackTraces = false) (LA23 : Hp → Nat → Nat → Nat → Nat → Nat → Int32 → Prop) (hLA23 : ∀ (h : Hp) (c : Nat) (n : Nat) (x1 : Nat) (x2 : Nat) (x3 : Nat) (x4 : Int32), c ≤ mc → n ≤ ms → LA23 h c n x1 x2 x3 x4 → V h c n 23 [(0, .ref (gSb G)), (1, .ref x1), (2, .ref x2), (3, .ref x3), (4, .int x4)] []) (h : Hp) (c : Nat) (n : Nat) (x1 : Nat) (x2 : Nat) (x3 : Nat) (x4 : Int32) (b1 : c ≤ mc) (b2 : n ≤ ms) (hw : B_L_law_1698 (gSn G) (gSx G) mc ms Q LA23 h c n x1 x2 x3 x4) : V h c n 1698 [(0, .ref (gSb G)), (1, .ref x1), (2, .ref x2), (3, .ref x3), (4, .int x4)] [] := by
  unfold B_L_law_1698 at hw
  refine r_goto (tgt := 2441) C (by decide) dL_law_1698 ?_
  exact r_sub C [0, 1, 2, 3, 4] rfl (b_L_law_2441 C hst LA23 hLA23 _ _ _ _ _ _ _ b1 b2 hw)
theorem b_L_law_1742 {G : gT} {l : Launch} {V : Hp → Nat → Nat → Nat → List (Nat × Value) → List Value → Prop} {mc ms : Nat} {Q : Bool → Hp → Prop} (C : Cx G l V cL_law 7 RX0 16 370 mc ms (pZ Q) none (some .boolean) [] false) (hst : l.stackTraces = false) (LA23 : Hp → Nat → Nat → Nat → Nat → Nat → Int32 → Prop) (hLA23 : ∀ (h : Hp) (c : Nat) (n : Nat) (x1 : Nat) (x2 : Nat) (x3 : Nat) (x4 : Int32), c ≤ mc → n ≤ ms → LA23 h c n x1 x2 x3 x4 → V h c n 23 [(0, .ref (gSb G)), (1, .ref x1), (2, .ref x2), (3, .ref x3), (4, .int x4)] []) (h : Hp) (c : Nat) (n : Nat) (x1 : Nat) (x2 : Nat) (x3 : Nat) (x4 : Int32) (b1 : c ≤ mc) (b2 : n ≤ ms) (hw : B_L_law_1742 (gSn G) (gSx G) mc ms Q LA23 h c n x1 x2 x3 x4) : V h c n 1742 [(0, .ref (gSb G)), (1, .ref x1), (2, .ref x2), (3, .ref x3), (4, .int x4)] [] := by
  unfold B_L_law_1742 at hw
  refine r_goto (tgt := 2441) C (by decide) dL_law_1742 ?_
  exact r_sub C [0, 1, 2, 3, 4] rfl (b_L_law_2441 C hst LA23 hLA23 _ _ _ _ _ _ _ b1 b2 hw)
theorem b_L_law_1810 {G : gT} {l : Launch} {V : Hp → Nat → Nat → Nat → List (Nat × Value) → List Value → Prop} {mc ms : Nat} {Q : Bool → Hp → Prop} (C : Cx G l V cL_law 7 RX0 16 370 mc ms (pZ Q) none (some .boolean) [] false) (hst : l.stackTraces = false) (LA23 : Hp → Nat → Nat → Nat → Nat → Nat → Int32 → Prop) (hLA23 : ∀ (h : Hp) (c : Nat) (n : Nat) (x1 : Nat) (x2 : Nat) (x3 : Nat) (x4 : Int32), c ≤ mc → n ≤ ms → LA23 h c n x1 x2 x3 x4 → V h c n 23 [(0, .ref (gSb G)), (1, .ref x1), (2, .ref x2), (3, .ref x3), (4, .int x4)] []) (h : Hp) (c : Nat) (n : Nat) (x1 : Nat) (x2 : Nat) (x3 : Nat) (x4 : Int32) (b1 : c ≤ mc) (b2 : n ≤ ms) (hw : B_L_law_1810 (gSn G) (gSx G) mc ms Q LA23 h c n x1 x2 x3 x4) : V h c n 1810 [(0, .ref (gSb G)), (1, .ref x1), (2, .ref x2), (3, .ref x3), (4, .int x4)] [] := by
  unfold B_L_law_1810 at hw
  refine r_goto (tgt := 2441) C (by decide) dL_law_1810 ?_
  exact r_sub C [0, 1, 2, 3, 4] rfl (b_L_law_2441 C hst LA23 hLA23 _ _ _ _ _ _ _ b1 b2 hw)
theorem b_L_law_1866 {G : gT} {l : Launch} {V : Hp → Nat → Nat → Nat → List (Nat × Value) → List Value → Prop} {mc ms : Nat} {Q : Bool → Hp → Prop} (C : Cx G l V cL_law 7 RX0 16 370 mc ms (pZ Q) none (some .boolean) [] false) (hst : l.stackTraces = false) (LA23 : Hp → Nat → Nat → Nat → Nat → Nat → Int32 → Prop) (hLA23 : ∀ (h : Hp) (c : Nat) (n : Nat) (x1 : Nat) (x2 : Nat) (x3 : Nat) (x4 : Int32), c ≤ mc → n ≤ ms → LA23 h c n x1 x2 x3 x4 → V h c n 23 [(0, .ref (gSb G)), (1, .ref x1), (2, .ref x2), (3, .ref x3), (4, .int x4)] []) (h : Hp) (c : Nat) (n : Nat) (x1 : Nat) (x2 : Nat) (x3 : Nat) (x4 : Int32) (b1 : c ≤ mc) (b2 : n ≤ ms) (hw : B_L_law_1866 (gSn G) (gSx G) mc ms Q LA23 h c n x1 x2 x3 x4) : V h c n 1866 [(0, .ref (gSb G)), (1, .ref x1), (2, .ref x2), (3, .ref x3), (4, .int x4)] [] := by
  unfold B_L_law_1866 at hw
  refine r_goto (tgt := 2441) C (by decide) dL_law_1866 ?_
  exact r_sub C [0, 1, 2, 3, 4] rfl (b_L_law_2441 C hst LA23 hLA23 _ _ _ _ _ _ _ b1 b2 hw)
theorem b_L_law_1934 {G : gT} {l : Launch} {V : Hp → Nat → Nat → Nat → List (Nat × Value) → List Value → Prop} {mc ms : Nat} {Q : Bool → Hp → Prop} (C : Cx G l V cL_law 7 RX0 16 370 mc ms (pZ Q) none (some .boolean) [] false) (hst : l.stackTraces = false) (LA23 : Hp → Nat → Nat → Nat → Nat → Nat → Int32 → Prop) (hLA23 : ∀ (h : Hp) (c : Nat) (n : Nat) (x1 : Nat) (x2 : Nat) (x3 : Nat) (x4 : Int32), c ≤ mc → n ≤ ms → LA23 h c n x1 x2 x3 x4 → V h c n 23 [(0, .ref (gSb G)), (1, .ref x1), (2, .ref x2), (3, .ref x3), (4, .int x4)] []) (h : Hp) (c : Nat) (n : Nat) (x1 : Nat) (x2 : Nat) (x3 : Nat) (x4 : Int32) (b1 : c ≤ mc) (b2 : n ≤ ms) (hw : B_L_law_1934 (gSn G) (gSx G) mc ms Q LA23 h c n x1 x2 x3 x4) : V h c n 1934 [(0, .ref (gSb G)), (1, .ref x1), (2, .ref x2), (3, .ref x3), (4, .int x4)] [] := by
  unfold B_L_law_1934 at hw
  refine r_goto (tgt := 2441) C (by decide) dL_law_1934 ?_
  exact r_sub C [0, 1, 2, 3, 4] rfl (b_L_law_2441 C hst LA23 hLA23 _ _ _ _ _ _ _ b1 b2 hw)
theorem b_L_law_2002 {G : gT} {l : Launch} {V : Hp → Nat → Nat → Nat → List (Nat × Value) → List Value → Prop} {mc ms : Nat} {Q : Bool → Hp → Prop} (C : Cx G l V cL_law 7 RX0 16 370 mc ms (pZ Q) none (some .boolean) [] false) (hst : l.stackTraces = false) (LA23 : Hp → Nat → Nat → Nat → Nat → Nat → Int32 → Prop) (hLA23 : ∀ (h : Hp) (c : Nat) (n : Nat) (x1 : Nat) (x2 : Nat) (x3 : Nat) (x4 : Int32), c ≤ mc → n ≤ ms → LA23 h c n x1 x2 x3 x4 → V h c n 23 [(0, .ref (gSb G)), (1, .ref x1), (2, .ref x2), (3, .ref x3), (4, .int x4)] []) (h : Hp) (c : Nat) (n : Nat) (x1 : Nat) (x2 : Nat) (x3 : Nat) (x4 : Int32) (b1 : c ≤ mc) (b2 : n ≤ ms) (hw : B_L_law_2002 (gSn G) (gSx G) mc ms Q LA23 h c n x1 x2 x3 x4) : V h c n 2002 [(0, .ref (gSb G)), (1, .ref x1), (2, .ref x2), (3, .ref x3), (4, .int x4)] [] := by
  unfold B_L_law_2002 at hw
  refine r_goto (tgt := 2441) C (by decide) dL_law_2002 ?_
  exact r_sub C [0, 1, 2, 3, 4] rfl (b_L_law_2441 C hst LA23 hLA23 _ _ _ _ _ _ _ b1 b2 hw)
theorem b_L_law_2058 {G : gT} {l : Launch} {V : Hp → Nat → Nat → Nat → List (Nat × Value) → List Value → Prop} {mc ms : Nat} {Q : Bool → Hp → Prop} (C : Cx G l V cL_law 7 RX0 16 370 mc ms (pZ Q) none (some .boolean) [] false) (hst : l.stackTraces = false) (LA23 : Hp → Nat → Nat → Nat → Nat → Nat → Int32 → Prop) (hLA23 : ∀ (h : Hp) (c : Nat) (n : Nat) (x1 : Nat) (x2 : Nat) (x3 : Nat) (x4 : Int32), c ≤ mc → n ≤ ms → LA23 h c n x1 x2 x3 x4 → V h c n 23 [(0, .ref (gSb G)), (1, .ref x1), (2, .ref x2), (3, .ref x3), (4, .int x4)] []) (h : Hp) (c : Nat) (n : Nat) (x1 : Nat) (x2 : Nat) (x3 : Nat) (x4 : Int32) (b1 : c ≤ mc) (b2 : n ≤ ms) (hw : B_L_law_2058 (gSn G) (gSx G) mc ms Q LA23 h c n x1 x2 x3 x4) : V h c n 2058 [(0, .ref (gSb G)), (1, .ref x1), (2, .ref x2), (3, .ref x3), (4, .int x4)] [] := by
  unfold B_L_law_2058 at hw
  refine r_goto (tgt := 2441) C (by decide) dL_law_2058 ?_
  exact r_sub C [0, 1, 2, 3, 4] rfl (b_L_law_2441 C hst LA23 hLA23 _ _ _ _ _ _ _ b1 b2 hw)
theorem b_L_law_2126 {G : gT} {l : Launch} {V : Hp → Nat → Nat → Nat → List (Nat × Value) → List Value → Prop} {mc ms : Nat} {Q : Bool → Hp → Prop} (C : Cx G l V cL_law 7 RX0 16 370 mc ms (pZ Q) none (some .boolean) [] false) (hst : l.stackTraces = false) (LA23 : Hp → Nat → Nat → Nat → Nat → Nat → Int32 → Prop) (hLA23 : ∀ (h : Hp) (c : Nat) (n : Nat) (x1 : Nat) (x2 : Nat) (x3 : Nat) (x4 : Int32), c ≤ mc → n ≤ ms → LA23 h c n x1 x2 x3 x4 → V h c n 23 [(0, .ref (gSb G)), (1, .ref x1), (2, .ref x2), (3, .ref x3), (4, .int x4)] []) (h : Hp) (c : Nat) (n : Nat) (x1 : Nat) (x2 : Nat) (x3 : Nat) (x4 : Int32) (b1 : c ≤ mc) (b2 : n ≤ ms) (hw : B_L_law_2126 (gSn G) (gSx G) mc ms Q LA23 h c n x1 x2 x3 x4) : V h c n 2126 [(0, .ref (gSb G)), (1, .ref x1), (2, .ref x2), (3, .ref x3), (4, .int x4)] [] := by
  unfold B_L_law_2126 at hw
  refine r_goto (tgt := 2441) C (by decide) dL_law_2126 ?_
  exact r_sub C [0, 1, 2, 3, 4] rfl (b_L_law_2441 C hst LA23 hLA23 _ _ _ _ _ _ _ b1 b2 hw)
theorem b_L_law_2226 {G : gT} {l : Launch} {V : Hp → Nat → Nat → Nat → List (Nat × Value) → List Value → Prop} {mc ms : Nat} {Q : Bool → Hp → Prop} (C : Cx G l V cL_law 7 RX0 16 370 mc ms (pZ Q) none (some .boolean) [] false) (hst : l.stackTraces = false) (LA23 : Hp → Nat → Nat → Nat → Nat → Nat → Int32 → Prop) (hLA23 : ∀ (h : Hp) (c : Nat) (n : Nat) (x1 : Nat) (x2 : Nat) (x3 : Nat) (x4 : Int32), c ≤ mc → n ≤ ms → LA23 h c n x1 x2 x3 x4 → V h c n 23 [(0, .ref (gSb G)), (1, .ref x1), (2, .ref x2), (3, .ref x3), (4, .int x4)] []) (h : Hp) (c : Nat) (n : Nat) (x1 : Nat) (x2 : Nat) (x3 : Nat) (x4 : Int32) (b1 : c ≤ mc) (b2 : n ≤ ms) (hw : B_L_law_2226 (gSn G) (gSx G) mc ms Q LA23 h c n x1 x2 x3 x4) : V h c n 2226 [(0, .ref (gSb G)), (1, .ref x1), (2, .ref x2), (3, .ref x3), (4, .int x4)] [] := by
  unfold B_L_law_2226 at hw
  refine r_goto (tgt := 2441) C (by decide) dL_law_2226 ?_
  exact r_sub C [0, 1, 2, 3, 4] rfl (b_L_law_2441 C hst LA23 hLA23 _ _ _ _ _ _ _ b1 b2 hw)
theorem b_L_law_2326 {G : gT} {l : Launch} {V : Hp → Nat → Nat → Nat → List (Nat × Value) → List Value → Prop} {mc ms : Nat} {Q : Bool → Hp → Prop} (C : Cx G l V cL_law 7 RX0 16 370 mc ms (pZ Q) none (some .boolean) [] false) (hst : l.stackTraces = false) (LA23 : Hp → Nat → Nat → Nat → Nat → Nat → Int32 → Prop) (hLA23 : ∀ (h : Hp) (c : Nat) (n : Nat) (x1 : Nat) (x2 : Nat) (x3 : Nat) (x4 : Int32), c ≤ mc → n ≤ ms → LA23 h c n x1 x2 x3 x4 → V h c n 23 [(0, .ref (gSb G)), (1, .ref x1), (2, .ref x2), (3, .ref x3), (4, .int x4)] []) (h : Hp) (c : Nat) (n : Nat) (x1 : Nat) (x2 : Nat) (x3 : Nat) (x4 : Int32) (b1 : c ≤ mc) (b2 : n ≤ ms) (hw : B_L_law_2326 (gSn G) (gSx G) mc ms Q LA23 h c n x1 x2 x3 x4) : V h c n 2326 [(0, .ref (gSb G)), (1, .ref x1), (2, .ref x2), (3, .ref x3), (4, .int x4)] [] := by
  unfold B_L_law_2326 at hw
  refine r_goto (tgt := 2441) C (by decide) dL_law_2326 ?_
  exact r_sub C [0, 1, 2, 3, 4] rfl (b_L_law_2441 C hst LA23 hLA23 _ _ _ _ _ _ _ b1 b2 hw)
theorem b_L_law_2382 {G : gT} {l : Launch} {V : Hp → Nat → Nat → Nat → List (Nat × Value) → List Value → Prop} {mc ms : Nat} {Q : Bool → Hp → Prop} (C : Cx G l V cL_law 7 RX0 16 370 mc ms (pZ Q) none (some .boolean) [] false) (hst : l.stackTraces = false) (LA23 : Hp → Nat → Nat → Nat → Nat → Nat → Int32 → Prop) (hLA23 : ∀ (h : Hp) (c : Nat) (n : Nat) (x1 : Nat) (x2 : Nat) (x3 : Nat) (x4 : Int32), c ≤ mc → n ≤ ms → LA23 h c n x1 x2 x3 x4 → V h c n 23 [(0, .ref (gSb G)), (1, .ref x1), (2, .ref x2), (3, .ref x3), (4, .int x4)] []) (h : Hp) (c : Nat) (n : Nat) (x1 : Nat) (x2 : Nat) (x3 : Nat) (x4 : Int32) (b1 : c ≤ mc) (b2 : n ≤ ms) (hw : B_L_law_2382 (gSn G) (gSx G) mc ms Q LA23 h c n x1 x2 x3 x4) : V h c n 2382 [(0, .ref (gSb G)), (1, .ref x1), (2, .ref x2), (3, .ref x3), (4, .int x4)] [] := by
  unfold B_L_law_2382 at hw
  refine r_goto (tgt := 2441) C (by decide) dL_law_2382 ?_
  exact r_sub C [0, 1, 2, 3, 4] rfl (b_L_law_2441 C hst LA23 hLA23 _ _ _ _ _ _ _ b1 b2 hw)
theorem b_L_law_2438 {G : gT} {l : Launch} {V : Hp → Nat → Nat → Nat → List (Nat × Value) → List Value → Prop} {mc ms : Nat} {Q : Bool → Hp → Prop} (C : Cx G l V cL_law 7 RX0 16 370 mc ms (pZ Q) none (some .boolean) [] false) (hst : l.stackTraces = false) (LA23 : Hp → Nat → Nat → Nat → Nat → Nat → Int32 → Prop) (hLA23 : ∀ (h : Hp) (c : Nat) (n : Nat) (x1 : Nat) (x2 : Nat) (x3 : Nat) (x4 : Int32), c ≤ mc → n ≤ ms → LA23 h c n x1 x2 x3 x4 → V h c n 23 [(0, .ref (gSb G)), (1, .ref x1), (2, .ref x2), (3, .ref x3), (4, .int x4)] []) (h : Hp) (c : Nat) (n : Nat) (x1 : Nat) (x2 : Nat) (x3 : Nat) (x4 : Int32) (b1 : c ≤ mc) (b2 : n ≤ ms) (hw : B_L_law_2438 (gSn G) (gSx G) mc ms Q LA23 h c n x1 x2 x3 x4) : V h c n 2438 [(0, .ref (gSb G)), (1, .ref x1), (2, .ref x2), (3, .ref x3), (4, .int x4)] [] := by
  unfold B_L_law_2438 at hw
  refine r_goto (tgt := 2441) C (by decide) dL_law_2438 ?_
  exact r_sub C [0, 1, 2, 3, 4] rfl (b_L_law_2441 C hst LA23 hLA23 _ _ _ _ _ _ _ b1 b2 hw)
theorem s_L_law_23 {G : gT} {l : Launch} {V : Hp → Nat → Nat → Nat → List (Nat × Value) → List Value → Prop} {mc ms : Nat} {Q : Bool → Hp → Prop} (C : Cx G l V cL_law 7 RX0 16 370 mc ms (pZ Q) none (some .boolean) [] false) (hst : l.stackTraces = false) (LA23 : Hp → Nat → Nat → Nat → Nat → Nat → Int32 → Prop) (hLA23 : ∀ (h : Hp) (c : Nat) (n : Nat) (x1 : Nat) (x2 : Nat) (x3 : Nat) (x4 : Int32), c ≤ mc → n ≤ ms → LA23 h c n x1 x2 x3 x4 → V h c n 23 [(0, .ref (gSb G)), (1, .ref x1), (2, .ref x2), (3, .ref x3), (4, .int x4)] []) (h : Hp) (c : Nat) (n : Nat) (x1 : Nat) (x2 : Nat) (x3 : Nat) (x4 : Int32) (b1 : c ≤ mc) (b2 : n ≤ ms) (hw : S_L_law_23 (gSn G) (gSx G) mc ms Q LA23 h c n x1 x2 x3 x4) : V h c n 23 [(0, .ref (gSb G)), (1, .ref x1), (2, .ref x2), (3, .ref x3), (4, .int x4)] [] := by
  unfold S_L_law_23 at hw
  refine r_iload C 4 rfl dL_law_23 (r_aload_n C rfl 0 rfl dL_law_25 ?_)
  refine r_scrLen C dL_law_26 ?_
  refine r_bipush (v := (6 : Int32)) C (by decide) dL_law_27 (r_isub C dL_law_29 ?_)
  refine r_icmp_gt (tgt := 2447) C (by decide) dL_law_30 (fun hc1 => ?_) (fun hc1 => ?_)
  · have hw := hw.1 hc1
    refine r_iconst (v := (1 : Int32)) C (by decide) dL_law_2447 ?_
    exact r_zreturn (x := true) C dL_law_2448 b1 b2 ⟨_, rfl, hw⟩
  · have hw := hw.2 hc1
    refine r_aload_n C rfl 0 rfl dL_law_33 (r_iload C 4 rfl dL_law_34 ?_)
    obtain ⟨hi2, hw⟩ := hw
    refine r_scrLd C hi2 dL_law_36 ?_
    refine r_bipush (v := (63 : Int32)) C (by decide) dL_law_37 (r_iand C dL_law_39 ?_)
    by_cases hd671 : (((gSx G) x4.toNatClampNeg) &&& (63 : Int32)).toInt < 0 ∨ 34 < (((gSx G) x4.toNatClampNeg) &&& (63 : Int32)).toInt
    · have hw := hw.1 hd671
      refine r_tableOut (tgt := 2441) C hd671 (by decide) dL_law_40 ?_
      exact r_sub C [0, 1, 2, 3, 4] rfl (b_L_law_2441 C hst LA23 hLA23 _ _ _ _ _ _ _ b1 b2 hw)
    · obtain ⟨k9, hk9, e9⟩ := tb_k 35 (by decide) hd671
      match k9, hk9, e9 with
      | 0, _, e9 =>
        have e9 : ((gSx G) x4.toNatClampNeg) &&& (63 : Int32) = (0 : Int32) := e9.trans (by decide)
        have hw := hw.2.1 e9
        refine r_tableAt (k := (0 : Int32)) (off := 156) (tgt := 196) C e9 (by decide) (by decide) (by decide) (by decide) dL_law_40 ?_
        refine r_aload_n C rfl 1 rfl dL_law_196 (r_aload_n C rfl 0 rfl dL_law_197 (r_iload C 4 rfl dL_law_198 (r_iconst (v := (1 : Int32)) C (by decide) dL_law_200 (r_iadd C dL_law_201 ?_))))
        obtain ⟨hi3, hw⟩ := hw
        refine r_scrLd C hi3 dL_law_202 ?_
        refine r_aload_n C rfl 3 rfl dL_law_203 ?_
        obtain ⟨k6, k7, hp8, hp9, hw⟩ := hw
        refine r_callSW (rest := []) (As := [.ref x1, .int ((gSx G) (x4 + (1 : Int32)).toNatClampNeg), .ref x3]) C sg_X0_append q1322 q1323 q76 q1324 rfl (Nat.le_of_ble_eq_true rfl) dL_law_204 rfl hp8 hp9 (c_X0_append G l k6 k7 x1 ((gSx G) (x4 + (1 : Int32)).toNatClampNeg) x3 h _ hst hw) (k_I (fun r4 h5 hw => ?_))
        refine r_istore (L' := [(5, .int r4), (0, .ref (gSb G)), (1, .ref x1), (2, .ref x2), (3, .ref x3), (4, .int x4)]) C (by decide) rfl dL_law_207 (r_aload_n C rfl 3 rfl dL_law_209 (r_aload_n C rfl 1 rfl dL_law_210 (r_iload C 5 rfl dL_law_211 (r_iconst (v := (1 : Int32)) C (by decide) dL_law_213 (r_iadd C dL_law_214 ?_)))))
        obtain ⟨hi10, hw⟩ := hw
        refine r_scrLd C hi10 dL_law_215 ?_
        obtain ⟨hq11, hw⟩ := hw
        refine r_callV (ci := 2) (rest := []) (As := [.int ((gSx G) (x4 + (1 : Int32)).toNatClampNeg)]) C sg_X3_append rfl rfl q2214 q2215 q2216 q90 q2217 rfl (Nat.le_of_ble_eq_true rfl) dL_law_216 rfl hq11 hp8 hp9 (c_X3_append G l x2 ((gSx G) (x4 + (1 : Int32)).toNatClampNeg) h5 _ hw) (k_I (fun r12 h13 hw => ?_))
        refine r_istore (L' := [(6, .int r12), (5, .int r4), (0, .ref (gSb G)), (1, .ref x1), (2, .ref x2), (3, .ref x3), (4, .int x4)]) C (by decide) rfl dL_law_219 (r_aload_n C rfl 4 rfl dL_law_221 ?_)
        obtain ⟨hq14, hw⟩ := hw
        refine r_callV (ci := 2) (rest := []) (As := []) C sg_X3_thrown rfl rfl q2210 q2211 q2212 q90 q2213 rfl (Nat.le_of_ble_eq_true rfl) dL_law_222 rfl hq14 hp8 hp9 (c_X3_thrown G l x2 h13 _ hw) (k_I (fun r15 h16 hw => ?_))
        refine r_iload C 1 rfl dL_law_225 ?_
        refine r_icmp_eq (tgt := 232) C (by decide) dL_law_227 (fun hc17 => ?_) (fun hc17 => ?_)
        · have hw := hw.1 hc17
          refine r_iload C 1 rfl dL_law_232 ?_
          refine r_if_ne (tgt := 249) C (by decide) dL_law_234 (fun hc18 => ?_) (fun hc18 => ?_)
          · have hw := hw.1 hc18
            exact r_sub C [2, 3, 4, 5, 6] rfl (b_L_law_249 C hst LA23 hLA23 _ _ _ _ _ _ _ hp8 hp9 hw)
          · have hw := hw.2 hc18
            refine r_aload_n C rfl 5 rfl dL_law_237 (r_iconst (v := (0 : Int32)) C (by decide) dL_law_238 ?_)
            refine r_laload C dL_law_239 hw (fun v19 hw => ?_)
            refine r_iload C 0 rfl dL_law_240 (r_i2l C dL_law_242 (r_lcmp C dL_law_243 ?_))
            refine r_if_eq (tgt := 249) C (by decide) dL_law_244 (fun hc20 => ?_) (fun hc20 => ?_)
            · have hw := hw.1 hc20
              exact r_sub C [2, 3, 4, 5, 6] rfl (b_L_law_249 C hst LA23 hLA23 _ _ _ _ _ _ _ hp8 hp9 hw)
            · have hw := hw.2 hc20
              refine r_iconst (v := (0 : Int32)) C (by decide) dL_law_247 ?_
              exact r_zreturn (x := false) C dL_law_248 hp8 hp9 ⟨_, rfl, hw⟩
        · have hw := hw.2 hc17
          refine r_iconst (v := (0 : Int32)) C (by decide) dL_law_230 ?_
          exact r_zreturn (x := false) C dL_law_231 hp8 hp9 ⟨_, rfl, hw⟩
      | 1, _, e9 =>
        have e9 : ((gSx G) x4.toNatClampNeg) &&& (63 : Int32) = (1 : Int32) := e9.trans (by decide)
        have hw := hw.2.2.1 e9
        refine r_tableAt (k := (1 : Int32)) (off := 212) (tgt := 252) C e9 (by decide) (by decide) (by decide) (by decide) dL_law_40 ?_
        refine r_aload_n C rfl 1 rfl dL_law_252 ?_
        obtain ⟨hq21, hw⟩ := hw
        refine r_callV (ci := 0) (rest := []) (As := []) C sg_X1_clearText rfl rfl q366 q367 q368 q77 q369 rfl (Nat.le_of_ble_eq_true rfl) dL_law_253 rfl hq21 b1 b2 (c_X1_clearText G l x1 h _ hw) (k_I (fun r22 h23 hw => ?_))
        refine r_aload_n C rfl 2 rfl dL_law_256 ?_
        obtain ⟨hq24, hw⟩ := hw
        refine r_callV (ci := 2) (rest := [.int r22]) (As := []) C sg_X3_clearText rfl rfl q2226 q2227 q2228 q90 q2229 rfl (Nat.le_of_ble_eq_true rfl) dL_law_257 rfl hq24 b1 b2 (c_X3_clearText G l x2 h23 _ hw) (k_I (fun r25 h26 hw => ?_))
        refine r_icmp_eq (tgt := 2441) C (by decide) dL_law_260 (fun hc27 => ?_) (fun hc27 => ?_)
        · have hw := hw.1 hc27
          exact r_sub C [0, 1, 2, 3, 4] rfl (b_L_law_2441 C hst LA23 hLA23 _ _ _ _ _ _ _ b1 b2 hw)
        · have hw := hw.2 hc27
          refine r_iconst (v := (0 : Int32)) C (by decide) dL_law_263 ?_
          exact r_zreturn (x := false) C dL_law_264 b1 b2 ⟨_, rfl, hw⟩
      | 2, _, e9 =>
        have e9 : ((gSx G) x4.toNatClampNeg) &&& (63 : Int32) = (2 : Int32) := e9.trans (by decide)
        have hw := hw.2.2.2.1 e9
        refine r_tableAt (k := (2 : Int32)) (off := 225) (tgt := 265) C e9 (by decide) (by decide) (by decide) (by decide) dL_law_40 ?_
        refine r_aload_n C rfl 1 rfl dL_law_265 ?_
        obtain ⟨hq28, hw⟩ := hw
        obtain ⟨k31, k32, hp33, hp34, hw⟩ := hw
        refine r_callV (ci := 0) (rest := []) (As := []) C sg_X1_errorPosition rfl rfl q370 q371 q372 q77 q373 rfl (Nat.le_of_ble_eq_true rfl) dL_law_266 rfl hq28 hp33 hp34 (c_X1_errorPosition G l k31 k32 x1 h _ hw) (k_I (fun r29 h30 hw => ?_))
        refine r_aload_n C rfl 2 rfl dL_law_269 ?_
        obtain ⟨hq35, hw⟩ := hw
        refine r_callV (ci := 2) (rest := [.int r29]) (As := []) C sg_X3_errorPosition rfl rfl q2230 q2231 q2232 q90 q2233 rfl (Nat.le_of_ble_eq_true rfl) dL_law_270 rfl hq35 hp33 hp34 (c_X3_errorPosition G l x2 h30 _ hw) (k_I (fun r36 h37 hw => ?_))
        refine r_icmp_eq (tgt := 2441) C (by decide) dL_law_273 (fun hc38 => ?_) (fun hc38 => ?_)
        · have hw := hw.1 hc38
          exact r_sub C [0, 1, 2, 3, 4] rfl (b_L_law_2441 C hst LA23 hLA23 _ _ _ _ _ _ _ hp33 hp34 hw)
        · have hw := hw.2 hc38
          refine r_iconst (v := (0 : Int32)) C (by decide) dL_law_276 ?_
          exact r_zreturn (x := false) C dL_law_277 hp33 hp34 ⟨_, rfl, hw⟩
      | 3, _, e9 =>
        have e9 : ((gSx G) x4.toNatClampNeg) &&& (63 : Int32) = (3 : Int32) := e9.trans (by decide)
        have hw := hw.2.2.2.2.1 e9
        refine r_tableAt (k := (3 : Int32)) (off := 238) (tgt := 278) C e9 (by decide) (by decide) (by decide) (by decide) dL_law_40 ?_
        refine r_aload_n C rfl 1 rfl dL_law_278 (r_aload_n C rfl 3 rfl dL_law_279 ?_)
        obtain ⟨k41, k42, hp43, hp44, hw⟩ := hw
        refine r_callSW (rest := []) (As := [.ref x1, .ref x3]) C sg_X0_load q1358 q1359 q76 q1360 rfl (Nat.le_of_ble_eq_true rfl) dL_law_280 rfl hp43 hp44 (c_X0_load G l k41 k42 x1 x3 h _ hst hw) (k_I (fun r39 h40 hw => ?_))
        refine r_istore (L' := [(5, .int r39), (0, .ref (gSb G)), (1, .ref x1), (2, .ref x2), (3, .ref x3), (4, .int x4)]) C (by decide) rfl dL_law_283 (r_aload_n C rfl 3 rfl dL_law_285 ?_)
        obtain ⟨hq45, hw⟩ := hw
        refine r_callV (ci := 2) (rest := []) (As := []) C sg_X3_load rfl rfl q2323 q2324 q2325 q90 q2326 rfl (Nat.le_of_ble_eq_true rfl) dL_law_286 rfl hq45 hp43 hp44 (c_X3_load G l x2 h40 _ hw) (k_I (fun r46 h47 hw => ?_))
        refine r_istore (L' := [(6, .int r46), (5, .int r39), (0, .ref (gSb G)), (1, .ref x1), (2, .ref x2), (3, .ref x3), (4, .int x4)]) C (by decide) rfl dL_law_289 (r_aload_n C rfl 4 rfl dL_law_291 ?_)
        obtain ⟨hq48, hw⟩ := hw
        refine r_callV (ci := 2) (rest := []) (As := []) C sg_X3_thrown rfl rfl q2210 q2211 q2212 q90 q2213 rfl (Nat.le_of_ble_eq_true rfl) dL_law_292 rfl hq48 hp43 hp44 (c_X3_thrown G l x2 h47 _ hw) (k_I (fun r49 h50 hw => ?_))
        refine r_iload C 1 rfl dL_law_295 ?_
        refine r_icmp_eq (tgt := 302) C (by decide) dL_law_297 (fun hc51 => ?_) (fun hc51 => ?_)
        · have hw := hw.1 hc51
          refine r_iload C 1 rfl dL_law_302 ?_
          refine r_if_ne (tgt := 319) C (by decide) dL_law_304 (fun hc52 => ?_) (fun hc52 => ?_)
          · have hw := hw.1 hc52
            exact r_sub C [2, 3, 4, 5, 6] rfl (b_L_law_319 C hst LA23 hLA23 _ _ _ _ _ _ _ hp43 hp44 hw)
          · have hw := hw.2 hc52
            refine r_aload_n C rfl 5 rfl dL_law_307 (r_iconst (v := (0 : Int32)) C (by decide) dL_law_308 ?_)
            refine r_laload C dL_law_309 hw (fun v53 hw => ?_)
            refine r_iload C 0 rfl dL_law_310 (r_i2l C dL_law_312 (r_lcmp C dL_law_313 ?_))
            refine r_if_eq (tgt := 319) C (by decide) dL_law_314 (fun hc54 => ?_) (fun hc54 => ?_)
            · have hw := hw.1 hc54
              exact r_sub C [2, 3, 4, 5, 6] rfl (b_L_law_319 C hst LA23 hLA23 _ _ _ _ _ _ _ hp43 hp44 hw)
            · have hw := hw.2 hc54
              refine r_iconst (v := (0 : Int32)) C (by decide) dL_law_317 ?_
              exact r_zreturn (x := false) C dL_law_318 hp43 hp44 ⟨_, rfl, hw⟩
        · have hw := hw.2 hc51
          refine r_iconst (v := (0 : Int32)) C (by decide) dL_law_300 ?_
          exact r_zreturn (x := false) C dL_law_301 hp43 hp44 ⟨_, rfl, hw⟩
      | 4, _, e9 =>
        have e9 : ((gSx G) x4.toNatClampNeg) &&& (63 : Int32) = (4 : Int32) := e9.trans (by decide)
        have hw := hw.2.2.2.2.2.1 e9
        refine r_tableAt (k := (4 : Int32)) (off := 282) (tgt := 322) C e9 (by decide) (by decide) (by decide) (by decide) dL_law_40 ?_
        refine r_aload_n C rfl 1 rfl dL_law_322 (r_aload_n C rfl 0 rfl dL_law_323 (r_iload C 4 rfl dL_law_324 (r_iconst (v := (1 : Int32)) C (by decide) dL_law_326 (r_iadd C dL_law_327 ?_))))
        obtain ⟨hi55, hw⟩ := hw
        refine r_scrLd C hi55 dL_law_328 ?_
        refine r_aload_n C rfl 3 rfl dL_law_329 ?_
        obtain ⟨k58, k59, hp60, hp61, hw⟩ := hw
        refine r_callSW (rest := []) (As := [.ref x1, .int ((gSx G) (x4 + (1 : Int32)).toNatClampNeg), .ref x3]) C sg_X0_about q1372 q1373 q76 q1374 rfl (Nat.le_of_ble_eq_true rfl) dL_law_330 rfl hp60 hp61 (c_X0_about G l k58 k59 x1 ((gSx G) (x4 + (1 : Int32)).toNatClampNeg) x3 h _ hst hw) (k_I (fun r56 h57 hw => ?_))
        refine r_istore (L' := [(5, .int r56), (0, .ref (gSb G)), (1, .ref x1), (2, .ref x2), (3, .ref x3), (4, .int x4)]) C (by decide) rfl dL_law_333 (r_aload_n C rfl 3 rfl dL_law_335 (r_aload_n C rfl 1 rfl dL_law_336 (r_iload C 5 rfl dL_law_337 (r_iconst (v := (1 : Int32)) C (by decide) dL_law_339 (r_iadd C dL_law_340 ?_)))))
        obtain ⟨hi62, hw⟩ := hw
        refine r_scrLd C hi62 dL_law_341 ?_
        obtain ⟨hq63, hw⟩ := hw
        refine r_callV (ci := 2) (rest := []) (As := [.int ((gSx G) (x4 + (1 : Int32)).toNatClampNeg)]) C sg_X3_about rfl rfl q2330 q2331 q2332 q90 q2333 rfl (Nat.le_of_ble_eq_true rfl) dL_law_342 rfl hq63 hp60 hp61 (c_X3_about G l x2 ((gSx G) (x4 + (1 : Int32)).toNatClampNeg) h57 _ hw) (k_I (fun r64 h65 hw => ?_))
        refine r_istore (L' := [(6, .int r64), (5, .int r56), (0, .ref (gSb G)), (1, .ref x1), (2, .ref x2), (3, .ref x3), (4, .int x4)]) C (by decide) rfl dL_law_345 (r_aload_n C rfl 4 rfl dL_law_347 ?_)
        obtain ⟨hq66, hw⟩ := hw
        refine r_callV (ci := 2) (rest := []) (As := []) C sg_X3_thrown rfl rfl q2210 q2211 q2212 q90 q2213 rfl (Nat.le_of_ble_eq_true rfl) dL_law_348 rfl hq66 hp60 hp61 (c_X3_thrown G l x2 h65 _ hw) (k_I (fun r67 h68 hw => ?_))
        refine r_iload C 1 rfl dL_law_351 ?_
        refine r_icmp_eq (tgt := 358) C (by decide) dL_law_353 (fun hc69 => ?_) (fun hc69 => ?_)
        · have hw := hw.1 hc69
          refine r_iload C 1 rfl dL_law_358 ?_
          refine r_if_ne (tgt := 375) C (by decide) dL_law_360 (fun hc70 => ?_) (fun hc70 => ?_)
          · have hw := hw.1 hc70
            exact r_sub C [2, 3, 4, 5, 6] rfl (b_L_law_375 C hst LA23 hLA23 _ _ _ _ _ _ _ hp60 hp61 hw)
          · have hw := hw.2 hc70
            refine r_aload_n C rfl 5 rfl dL_law_363 (r_iconst (v := (0 : Int32)) C (by decide) dL_law_364 ?_)
            refine r_laload C dL_law_365 hw (fun v71 hw => ?_)
            refine r_iload C 0 rfl dL_law_366 (r_i2l C dL_law_368 (r_lcmp C dL_law_369 ?_))
            refine r_if_eq (tgt := 375) C (by decide) dL_law_370 (fun hc72 => ?_) (fun hc72 => ?_)
            · have hw := hw.1 hc72
              exact r_sub C [2, 3, 4, 5, 6] rfl (b_L_law_375 C hst LA23 hLA23 _ _ _ _ _ _ _ hp60 hp61 hw)
            · have hw := hw.2 hc72
              refine r_iconst (v := (0 : Int32)) C (by decide) dL_law_373 ?_
              exact r_zreturn (x := false) C dL_law_374 hp60 hp61 ⟨_, rfl, hw⟩
        · have hw := hw.2 hc69
          refine r_iconst (v := (0 : Int32)) C (by decide) dL_law_356 ?_
          exact r_zreturn (x := false) C dL_law_357 hp60 hp61 ⟨_, rfl, hw⟩
      | 5, _, e9 =>
        have e9 : ((gSx G) x4.toNatClampNeg) &&& (63 : Int32) = (5 : Int32) := e9.trans (by decide)
        have hw := hw.2.2.2.2.2.2.1 e9
        refine r_tableAt (k := (5 : Int32)) (off := 338) (tgt := 378) C e9 (by decide) (by decide) (by decide) (by decide) dL_law_40 ?_
        refine r_aload_n C rfl 1 rfl dL_law_378 (r_aload_n C rfl 0 rfl dL_law_379 (r_iload C 4 rfl dL_law_380 (r_iconst (v := (1 : Int32)) C (by decide) dL_law_382 (r_iadd C dL_law_383 ?_))))
        obtain ⟨hi73, hw⟩ := hw
        refine r_scrLd C hi73 dL_law_384 ?_
        refine r_aload_n C rfl 0 rfl dL_law_385 (r_iload C 4 rfl dL_law_386 (r_iconst (v := (2 : Int32)) C (by decide) dL_law_388 (r_iadd C dL_law_389 ?_)))
        obtain ⟨hi74, hw⟩ := hw
        refine r_scrLd C hi74 dL_law_390 ?_
        refine r_aload_n C rfl 3 rfl dL_law_391 ?_
        obtain ⟨k77, k78, hp79, hp80, hw⟩ := hw
        refine r_callSW (rest := []) (As := [.ref x1, .int ((gSx G) (x4 + (1 : Int32)).toNatClampNeg), .int ((gSx G) (x4 + (2 : Int32)).toNatClampNeg), .ref x3]) C sg_X0_ofReign q1576 q1577 q76 q1578 rfl (Nat.le_of_ble_eq_true rfl) dL_law_392 rfl hp79 hp80 (c_X0_ofReign G l k77 k78 x1 ((gSx G) (x4 + (1 : Int32)).toNatClampNeg) ((gSx G) (x4 + (2 : Int32)).toNatClampNeg) x3 h _ hst hw) (k_I (fun r75 h76 hw => ?_))
        refine r_istore (L' := [(5, .int r75), (0, .ref (gSb G)), (1, .ref x1), (2, .ref x2), (3, .ref x3), (4, .int x4)]) C (by decide) rfl dL_law_395 (r_aload_n C rfl 3 rfl dL_law_397 (r_aload_n C rfl 1 rfl dL_law_398 (r_iload C 5 rfl dL_law_399 (r_iconst (v := (1 : Int32)) C (by decide) dL_law_401 (r_iadd C dL_law_402 ?_)))))
        obtain ⟨hi81, hw⟩ := hw
        refine r_scrLd C hi81 dL_law_403 ?_
        refine r_aload_n C rfl 1 rfl dL_law_404 (r_iload C 5 rfl dL_law_405 (r_iconst (v := (2 : Int32)) C (by decide) dL_law_407 (r_iadd C dL_law_408 ?_)))
        obtain ⟨hi82, hw⟩ := hw
        refine r_scrLd C hi82 dL_law_409 ?_
        obtain ⟨hq83, hw⟩ := hw
        refine r_callV (ci := 2) (rest := []) (As := [.int ((gSx G) (x4 + (1 : Int32)).toNatClampNeg), .int ((gSx G) (x4 + (2 : Int32)).toNatClampNeg)]) C sg_X3_ofReign rfl rfl q2404 q2405 q2406 q90 q2407 rfl (Nat.le_of_ble_eq_true rfl) dL_law_410 rfl hq83 hp79 hp80 (c_X3_ofReign G l x2 ((gSx G) (x4 + (1 : Int32)).toNatClampNeg) ((gSx G) (x4 + (2 : Int32)).toNatClampNeg) h76 _ hw) (k_I (fun r84 h85 hw => ?_))
        refine r_istore (L' := [(6, .int r84), (5, .int r75), (0, .ref (gSb G)), (1, .ref x1), (2, .ref x2), (3, .ref x3), (4, .int x4)]) C (by decide) rfl dL_law_413 (r_aload_n C rfl 4 rfl dL_law_415 ?_)
        obtain ⟨hq86, hw⟩ := hw
        refine r_callV (ci := 2) (rest := []) (As := []) C sg_X3_thrown rfl rfl q2210 q2211 q2212 q90 q2213 rfl (Nat.le_of_ble_eq_true rfl) dL_law_416 rfl hq86 hp79 hp80 (c_X3_thrown G l x2 h85 _ hw) (k_I (fun r87 h88 hw => ?_))
        refine r_iload C 1 rfl dL_law_419 ?_
        refine r_icmp_eq (tgt := 426) C (by decide) dL_law_421 (fun hc89 => ?_) (fun hc89 => ?_)
        · have hw := hw.1 hc89
          refine r_iload C 1 rfl dL_law_426 ?_
          refine r_if_ne (tgt := 443) C (by decide) dL_law_428 (fun hc90 => ?_) (fun hc90 => ?_)
          · have hw := hw.1 hc90
            exact r_sub C [2, 3, 4, 5, 6] rfl (b_L_law_443 C hst LA23 hLA23 _ _ _ _ _ _ _ hp79 hp80 hw)
          · have hw := hw.2 hc90
            refine r_aload_n C rfl 5 rfl dL_law_431 (r_iconst (v := (0 : Int32)) C (by decide) dL_law_432 ?_)
            refine r_laload C dL_law_433 hw (fun v91 hw => ?_)
            refine r_iload C 0 rfl dL_law_434 (r_i2l C dL_law_436 (r_lcmp C dL_law_437 ?_))
            refine r_if_eq (tgt := 443) C (by decide) dL_law_438 (fun hc92 => ?_) (fun hc92 => ?_)
            · have hw := hw.1 hc92
              exact r_sub C [2, 3, 4, 5, 6] rfl (b_L_law_443 C hst LA23 hLA23 _ _ _ _ _ _ _ hp79 hp80 hw)
            · have hw := hw.2 hc92
              refine r_iconst (v := (0 : Int32)) C (by decide) dL_law_441 ?_
              exact r_zreturn (x := false) C dL_law_442 hp79 hp80 ⟨_, rfl, hw⟩
        · have hw := hw.2 hc89
          refine r_iconst (v := (0 : Int32)) C (by decide) dL_law_424 ?_
          exact r_zreturn (x := false) C dL_law_425 hp79 hp80 ⟨_, rfl, hw⟩
      | 6, _, e9 =>
        have e9 : ((gSx G) x4.toNatClampNeg) &&& (63 : Int32) = (6 : Int32) := e9.trans (by decide)
        have hw := hw.2.2.2.2.2.2.2.1 e9
        refine r_tableAt (k := (6 : Int32)) (off := 406) (tgt := 446) C e9 (by decide) (by decide) (by decide) (by decide) dL_law_40 ?_
        refine r_aload_n C rfl 1 rfl dL_law_446 (r_aload_n C rfl 0 rfl dL_law_447 (r_iload C 4 rfl dL_law_448 (r_iconst (v := (1 : Int32)) C (by decide) dL_law_450 (r_iadd C dL_law_451 ?_))))
        obtain ⟨hi93, hw⟩ := hw
        refine r_scrLd C hi93 dL_law_452 ?_
        refine r_aload_n C rfl 0 rfl dL_law_453 (r_iload C 4 rfl dL_law_454 (r_iconst (v := (2 : Int32)) C (by decide) dL_law_456 (r_iadd C dL_law_457 ?_)))
        obtain ⟨hi94, hw⟩ := hw
        refine r_scrLd C hi94 dL_law_458 ?_
        refine r_aload_n C rfl 3 rfl dL_law_459 ?_
        obtain ⟨k97, k98, hp99, hp100, hw⟩ := hw
        refine r_callSW (rest := []) (As := [.ref x1, .int ((gSx G) (x4 + (1 : Int32)).toNatClampNeg), .int ((gSx G) (x4 + (2 : Int32)).toNatClampNeg), .ref x3]) C sg_X0_ofDie q1613 q1614 q76 q1615 rfl (Nat.le_of_ble_eq_true rfl) dL_law_460 rfl hp99 hp100 (c_X0_ofDie G l k97 k98 x1 ((gSx G) (x4 + (1 : Int32)).toNatClampNeg) ((gSx G) (x4 + (2 : Int32)).toNatClampNeg) x3 h _ hst hw) (k_I (fun r95 h96 hw => ?_))
        refine r_istore (L' := [(5, .int r95), (0, .ref (gSb G)), (1, .ref x1), (2, .ref x2), (3, .ref x3), (4, .int x4)]) C (by decide) rfl dL_law_463 (r_aload_n C rfl 3 rfl dL_law_465 (r_aload_n C rfl 1 rfl dL_law_466 (r_iload C 5 rfl dL_law_467 (r_iconst (v := (1 : Int32)) C (by decide) dL_law_469 (r_iadd C dL_law_470 ?_)))))
        obtain ⟨hi101, hw⟩ := hw
        refine r_scrLd C hi101 dL_law_471 ?_
        refine r_aload_n C rfl 1 rfl dL_law_472 (r_iload C 5 rfl dL_law_473 (r_iconst (v := (2 : Int32)) C (by decide) dL_law_475 (r_iadd C dL_law_476 ?_)))
        obtain ⟨hi102, hw⟩ := hw
        refine r_scrLd C hi102 dL_law_477 ?_
        obtain ⟨hq103, hw⟩ := hw
        refine r_callV (ci := 2) (rest := []) (As := [.int ((gSx G) (x4 + (1 : Int32)).toNatClampNeg), .int ((gSx G) (x4 + (2 : Int32)).toNatClampNeg)]) C sg_X3_ofDie rfl rfl q2412 q2413 q2414 q90 q2415 rfl (Nat.le_of_ble_eq_true rfl) dL_law_478 rfl hq103 hp99 hp100 (c_X3_ofDie G l x2 ((gSx G) (x4 + (1 : Int32)).toNatClampNeg) ((gSx G) (x4 + (2 : Int32)).toNatClampNeg) h96 _ hw) (k_I (fun r104 h105 hw => ?_))
        refine r_istore (L' := [(6, .int r104), (5, .int r95), (0, .ref (gSb G)), (1, .ref x1), (2, .ref x2), (3, .ref x3), (4, .int x4)]) C (by decide) rfl dL_law_481 (r_aload_n C rfl 4 rfl dL_law_483 ?_)
        obtain ⟨hq106, hw⟩ := hw
        refine r_callV (ci := 2) (rest := []) (As := []) C sg_X3_thrown rfl rfl q2210 q2211 q2212 q90 q2213 rfl (Nat.le_of_ble_eq_true rfl) dL_law_484 rfl hq106 hp99 hp100 (c_X3_thrown G l x2 h105 _ hw) (k_I (fun r107 h108 hw => ?_))
        refine r_iload C 1 rfl dL_law_487 ?_
        refine r_icmp_eq (tgt := 494) C (by decide) dL_law_489 (fun hc109 => ?_) (fun hc109 => ?_)
        · have hw := hw.1 hc109
          refine r_iload C 1 rfl dL_law_494 ?_
          refine r_if_ne (tgt := 511) C (by decide) dL_law_496 (fun hc110 => ?_) (fun hc110 => ?_)
          · have hw := hw.1 hc110
            exact r_sub C [2, 3, 4, 5, 6] rfl (b_L_law_511 C hst LA23 hLA23 _ _ _ _ _ _ _ hp99 hp100 hw)
          · have hw := hw.2 hc110
            refine r_aload_n C rfl 5 rfl dL_law_499 (r_iconst (v := (0 : Int32)) C (by decide) dL_law_500 ?_)
            refine r_laload C dL_law_501 hw (fun v111 hw => ?_)
            refine r_iload C 0 rfl dL_law_502 (r_i2l C dL_law_504 (r_lcmp C dL_law_505 ?_))
            refine r_if_eq (tgt := 511) C (by decide) dL_law_506 (fun hc112 => ?_) (fun hc112 => ?_)
            · have hw := hw.1 hc112
              exact r_sub C [2, 3, 4, 5, 6] rfl (b_L_law_511 C hst LA23 hLA23 _ _ _ _ _ _ _ hp99 hp100 hw)
            · have hw := hw.2 hc112
              refine r_iconst (v := (0 : Int32)) C (by decide) dL_law_509 ?_
              exact r_zreturn (x := false) C dL_law_510 hp99 hp100 ⟨_, rfl, hw⟩
        · have hw := hw.2 hc109
          refine r_iconst (v := (0 : Int32)) C (by decide) dL_law_492 ?_
          exact r_zreturn (x := false) C dL_law_493 hp99 hp100 ⟨_, rfl, hw⟩
      | 7, _, e9 =>
        have e9 : ((gSx G) x4.toNatClampNeg) &&& (63 : Int32) = (7 : Int32) := e9.trans (by decide)
        have hw := hw.2.2.2.2.2.2.2.2.1 e9
        refine r_tableAt (k := (7 : Int32)) (off := 474) (tgt := 514) C e9 (by decide) (by decide) (by decide) (by decide) dL_law_40 ?_
        refine r_aload_n C rfl 1 rfl dL_law_514 (r_aload_n C rfl 0 rfl dL_law_515 (r_iload C 4 rfl dL_law_516 (r_iconst (v := (1 : Int32)) C (by decide) dL_law_518 (r_iadd C dL_law_519 ?_))))
        obtain ⟨hi113, hw⟩ := hw
        refine r_scrLd C hi113 dL_law_520 ?_
        refine r_aload_n C rfl 0 rfl dL_law_521 (r_iload C 4 rfl dL_law_522 (r_iconst (v := (2 : Int32)) C (by decide) dL_law_524 (r_iadd C dL_law_525 ?_)))
        obtain ⟨hi114, hw⟩ := hw
        refine r_scrLd C hi114 dL_law_526 ?_
        refine r_aload_n C rfl 3 rfl dL_law_527 ?_
        obtain ⟨k117, k118, hp119, hp120, hw⟩ := hw
        refine r_callSW (rest := []) (As := [.ref x1, .int ((gSx G) (x4 + (1 : Int32)).toNatClampNeg), .int ((gSx G) (x4 + (2 : Int32)).toNatClampNeg), .ref x3]) C sg_X0_crackYear q1620 q1621 q76 q1622 rfl (Nat.le_of_ble_eq_true rfl) dL_law_528 rfl hp119 hp120 (c_X0_crackYear G l k117 k118 x1 ((gSx G) (x4 + (1 : Int32)).toNatClampNeg) ((gSx G) (x4 + (2 : Int32)).toNatClampNeg) x3 h _ hst hw) (k_I (fun r115 h116 hw => ?_))
        refine r_istore (L' := [(5, .int r115), (0, .ref (gSb G)), (1, .ref x1), (2, .ref x2), (3, .ref x3), (4, .int x4)]) C (by decide) rfl dL_law_531 (r_aload_n C rfl 3 rfl dL_law_533 (r_aload_n C rfl 1 rfl dL_law_534 (r_iload C 5 rfl dL_law_535 (r_iconst (v := (1 : Int32)) C (by decide) dL_law_537 (r_iadd C dL_law_538 ?_)))))
        obtain ⟨hi121, hw⟩ := hw
        refine r_scrLd C hi121 dL_law_539 ?_
        refine r_aload_n C rfl 1 rfl dL_law_540 (r_iload C 5 rfl dL_law_541 (r_iconst (v := (2 : Int32)) C (by decide) dL_law_543 (r_iadd C dL_law_544 ?_)))
        obtain ⟨hi122, hw⟩ := hw
        refine r_scrLd C hi122 dL_law_545 ?_
        obtain ⟨hq123, hw⟩ := hw
        refine r_callV (ci := 2) (rest := []) (As := [.int ((gSx G) (x4 + (1 : Int32)).toNatClampNeg), .int ((gSx G) (x4 + (2 : Int32)).toNatClampNeg)]) C sg_X3_crackYear rfl rfl q2421 q2422 q2423 q90 q2424 rfl (Nat.le_of_ble_eq_true rfl) dL_law_546 rfl hq123 hp119 hp120 (c_X3_crackYear G l x2 ((gSx G) (x4 + (1 : Int32)).toNatClampNeg) ((gSx G) (x4 + (2 : Int32)).toNatClampNeg) h116 _ hw) (k_I (fun r124 h125 hw => ?_))
        refine r_istore (L' := [(6, .int r124), (5, .int r115), (0, .ref (gSb G)), (1, .ref x1), (2, .ref x2), (3, .ref x3), (4, .int x4)]) C (by decide) rfl dL_law_549 (r_aload_n C rfl 4 rfl dL_law_551 ?_)
        obtain ⟨hq126, hw⟩ := hw
        refine r_callV (ci := 2) (rest := []) (As := []) C sg_X3_thrown rfl rfl q2210 q2211 q2212 q90 q2213 rfl (Nat.le_of_ble_eq_true rfl) dL_law_552 rfl hq126 hp119 hp120 (c_X3_thrown G l x2 h125 _ hw) (k_I (fun r127 h128 hw => ?_))
        refine r_iload C 1 rfl dL_law_555 ?_
        refine r_icmp_eq (tgt := 562) C (by decide) dL_law_557 (fun hc129 => ?_) (fun hc129 => ?_)
        · have hw := hw.1 hc129
          refine r_iload C 1 rfl dL_law_562 ?_
          refine r_if_ne (tgt := 579) C (by decide) dL_law_564 (fun hc130 => ?_) (fun hc130 => ?_)
          · have hw := hw.1 hc130
            exact r_sub C [2, 3, 4, 5, 6] rfl (b_L_law_579 C hst LA23 hLA23 _ _ _ _ _ _ _ hp119 hp120 hw)
          · have hw := hw.2 hc130
            refine r_aload_n C rfl 5 rfl dL_law_567 (r_iconst (v := (0 : Int32)) C (by decide) dL_law_568 ?_)
            refine r_laload C dL_law_569 hw (fun v131 hw => ?_)
            refine r_iload C 0 rfl dL_law_570 (r_i2l C dL_law_572 (r_lcmp C dL_law_573 ?_))
            refine r_if_eq (tgt := 579) C (by decide) dL_law_574 (fun hc132 => ?_) (fun hc132 => ?_)
            · have hw := hw.1 hc132
              exact r_sub C [2, 3, 4, 5, 6] rfl (b_L_law_579 C hst LA23 hLA23 _ _ _ _ _ _ _ hp119 hp120 hw)
            · have hw := hw.2 hc132
              refine r_iconst (v := (0 : Int32)) C (by decide) dL_law_577 ?_
              exact r_zreturn (x := false) C dL_law_578 hp119 hp120 ⟨_, rfl, hw⟩
        · have hw := hw.2 hc129
          refine r_iconst (v := (0 : Int32)) C (by decide) dL_law_560 ?_
          exact r_zreturn (x := false) C dL_law_561 hp119 hp120 ⟨_, rfl, hw⟩
      | 8, _, e9 =>
        have e9 : ((gSx G) x4.toNatClampNeg) &&& (63 : Int32) = (8 : Int32) := e9.trans (by decide)
        have hw := hw.2.2.2.2.2.2.2.2.2.1 e9
        refine r_tableAt (k := (8 : Int32)) (off := 542) (tgt := 582) C e9 (by decide) (by decide) (by decide) (by decide) dL_law_40 ?_
        refine r_aload_n C rfl 1 rfl dL_law_582 (r_aload_n C rfl 0 rfl dL_law_583 (r_iload C 4 rfl dL_law_584 (r_iconst (v := (1 : Int32)) C (by decide) dL_law_586 (r_iadd C dL_law_587 ?_))))
        obtain ⟨hi133, hw⟩ := hw
        refine r_scrLd C hi133 dL_law_588 ?_
        refine r_aload_n C rfl 0 rfl dL_law_589 (r_iload C 4 rfl dL_law_590 (r_iconst (v := (2 : Int32)) C (by decide) dL_law_592 (r_iadd C dL_law_593 ?_)))
        obtain ⟨hi134, hw⟩ := hw
        refine r_scrLd C hi134 dL_law_594 ?_
        refine r_aload_n C rfl 3 rfl dL_law_595 ?_
        obtain ⟨k137, k138, hp139, hp140, hw⟩ := hw
        refine r_callSW (rest := []) (As := [.ref x1, .int ((gSx G) (x4 + (1 : Int32)).toNatClampNeg), .int ((gSx G) (x4 + (2 : Int32)).toNatClampNeg), .ref x3]) C sg_X0_ofSeal q1629 q1630 q76 q1631 rfl (Nat.le_of_ble_eq_true rfl) dL_law_596 rfl hp139 hp140 (c_X0_ofSeal G l k137 k138 x1 ((gSx G) (x4 + (1 : Int32)).toNatClampNeg) ((gSx G) (x4 + (2 : Int32)).toNatClampNeg) x3 h _ hst hw) (k_I (fun r135 h136 hw => ?_))
        refine r_istore (L' := [(5, .int r135), (0, .ref (gSb G)), (1, .ref x1), (2, .ref x2), (3, .ref x3), (4, .int x4)]) C (by decide) rfl dL_law_599 (r_aload_n C rfl 3 rfl dL_law_601 (r_aload_n C rfl 1 rfl dL_law_602 (r_iload C 5 rfl dL_law_603 (r_iconst (v := (1 : Int32)) C (by decide) dL_law_605 (r_iadd C dL_law_606 ?_)))))
        obtain ⟨hi141, hw⟩ := hw
        refine r_scrLd C hi141 dL_law_607 ?_
        refine r_aload_n C rfl 1 rfl dL_law_608 (r_iload C 5 rfl dL_law_609 (r_iconst (v := (2 : Int32)) C (by decide) dL_law_611 (r_iadd C dL_law_612 ?_)))
        obtain ⟨hi142, hw⟩ := hw
        refine r_scrLd C hi142 dL_law_613 ?_
        obtain ⟨hq143, hw⟩ := hw
        refine r_callV (ci := 2) (rest := []) (As := [.int ((gSx G) (x4 + (1 : Int32)).toNatClampNeg), .int ((gSx G) (x4 + (2 : Int32)).toNatClampNeg)]) C sg_X3_ofSeal rfl rfl q2425 q2426 q2427 q90 q2428 rfl (Nat.le_of_ble_eq_true rfl) dL_law_614 rfl hq143 hp139 hp140 (c_X3_ofSeal G l x2 ((gSx G) (x4 + (1 : Int32)).toNatClampNeg) ((gSx G) (x4 + (2 : Int32)).toNatClampNeg) h136 _ hw) (k_I (fun r144 h145 hw => ?_))
        refine r_istore (L' := [(6, .int r144), (5, .int r135), (0, .ref (gSb G)), (1, .ref x1), (2, .ref x2), (3, .ref x3), (4, .int x4)]) C (by decide) rfl dL_law_617 (r_aload_n C rfl 4 rfl dL_law_619 ?_)
        obtain ⟨hq146, hw⟩ := hw
        refine r_callV (ci := 2) (rest := []) (As := []) C sg_X3_thrown rfl rfl q2210 q2211 q2212 q90 q2213 rfl (Nat.le_of_ble_eq_true rfl) dL_law_620 rfl hq146 hp139 hp140 (c_X3_thrown G l x2 h145 _ hw) (k_I (fun r147 h148 hw => ?_))
        refine r_iload C 1 rfl dL_law_623 ?_
        refine r_icmp_eq (tgt := 630) C (by decide) dL_law_625 (fun hc149 => ?_) (fun hc149 => ?_)
        · have hw := hw.1 hc149
          refine r_iload C 1 rfl dL_law_630 ?_
          refine r_if_ne (tgt := 647) C (by decide) dL_law_632 (fun hc150 => ?_) (fun hc150 => ?_)
          · have hw := hw.1 hc150
            exact r_sub C [2, 3, 4, 5, 6] rfl (b_L_law_647 C hst LA23 hLA23 _ _ _ _ _ _ _ hp139 hp140 hw)
          · have hw := hw.2 hc150
            refine r_aload_n C rfl 5 rfl dL_law_635 (r_iconst (v := (0 : Int32)) C (by decide) dL_law_636 ?_)
            refine r_laload C dL_law_637 hw (fun v151 hw => ?_)
            refine r_iload C 0 rfl dL_law_638 (r_i2l C dL_law_640 (r_lcmp C dL_law_641 ?_))
            refine r_if_eq (tgt := 647) C (by decide) dL_law_642 (fun hc152 => ?_) (fun hc152 => ?_)
            · have hw := hw.1 hc152
              exact r_sub C [2, 3, 4, 5, 6] rfl (b_L_law_647 C hst LA23 hLA23 _ _ _ _ _ _ _ hp139 hp140 hw)
            · have hw := hw.2 hc152
              refine r_iconst (v := (0 : Int32)) C (by decide) dL_law_645 ?_
              exact r_zreturn (x := false) C dL_law_646 hp139 hp140 ⟨_, rfl, hw⟩
        · have hw := hw.2 hc149
          refine r_iconst (v := (0 : Int32)) C (by decide) dL_law_628 ?_
          exact r_zreturn (x := false) C dL_law_629 hp139 hp140 ⟨_, rfl, hw⟩
      | 9, _, e9 =>
        have e9 : ((gSx G) x4.toNatClampNeg) &&& (63 : Int32) = (9 : Int32) := e9.trans (by decide)
        have hw := hw.2.2.2.2.2.2.2.2.2.2.1 e9
        refine r_tableAt (k := (9 : Int32)) (off := 610) (tgt := 650) C e9 (by decide) (by decide) (by decide) (by decide) dL_law_40 ?_
        refine r_aload_n C rfl 1 rfl dL_law_650 (r_aload_n C rfl 0 rfl dL_law_651 (r_iload C 4 rfl dL_law_652 (r_iconst (v := (1 : Int32)) C (by decide) dL_law_654 (r_iadd C dL_law_655 ?_))))
        obtain ⟨hi153, hw⟩ := hw
        refine r_scrLd C hi153 dL_law_656 ?_
        refine r_aload_n C rfl 0 rfl dL_law_657 (r_iload C 4 rfl dL_law_658 (r_iconst (v := (2 : Int32)) C (by decide) dL_law_660 (r_iadd C dL_law_661 ?_)))
        obtain ⟨hi154, hw⟩ := hw
        refine r_scrLd C hi154 dL_law_662 ?_
        refine r_aload_n C rfl 3 rfl dL_law_663 ?_
        obtain ⟨k157, k158, hp159, hp160, hw⟩ := hw
        refine r_callSW (rest := []) (As := [.ref x1, .int ((gSx G) (x4 + (1 : Int32)).toNatClampNeg), .int ((gSx G) (x4 + (2 : Int32)).toNatClampNeg), .ref x3]) C sg_X0_dated q1644 q1645 q76 q1646 rfl (Nat.le_of_ble_eq_true rfl) dL_law_664 rfl hp159 hp160 (c_X0_dated G l k157 k158 x1 ((gSx G) (x4 + (1 : Int32)).toNatClampNeg) ((gSx G) (x4 + (2 : Int32)).toNatClampNeg) x3 h _ hst hw) (k_I (fun r155 h156 hw => ?_))
        refine r_istore (L' := [(5, .int r155), (0, .ref (gSb G)), (1, .ref x1), (2, .ref x2), (3, .ref x3), (4, .int x4)]) C (by decide) rfl dL_law_667 (r_aload_n C rfl 3 rfl dL_law_669 (r_aload_n C rfl 1 rfl dL_law_670 (r_iload C 5 rfl dL_law_671 (r_iconst (v := (1 : Int32)) C (by decide) dL_law_673 (r_iadd C dL_law_674 ?_)))))
        obtain ⟨hi161, hw⟩ := hw
        refine r_scrLd C hi161 dL_law_675 ?_
        refine r_aload_n C rfl 1 rfl dL_law_676 (r_iload C 5 rfl dL_law_677 (r_iconst (v := (2 : Int32)) C (by decide) dL_law_679 (r_iadd C dL_law_680 ?_)))
        obtain ⟨hi162, hw⟩ := hw
        refine r_scrLd C hi162 dL_law_681 ?_
        obtain ⟨hq163, hw⟩ := hw
        refine r_callV (ci := 2) (rest := []) (As := [.int ((gSx G) (x4 + (1 : Int32)).toNatClampNeg), .int ((gSx G) (x4 + (2 : Int32)).toNatClampNeg)]) C sg_X3_dated rfl rfl q2430 q2431 q2432 q90 q2433 rfl (Nat.le_of_ble_eq_true rfl) dL_law_682 rfl hq163 hp159 hp160 (c_X3_dated G l x2 ((gSx G) (x4 + (1 : Int32)).toNatClampNeg) ((gSx G) (x4 + (2 : Int32)).toNatClampNeg) h156 _ hw) (k_I (fun r164 h165 hw => ?_))
        refine r_istore (L' := [(6, .int r164), (5, .int r155), (0, .ref (gSb G)), (1, .ref x1), (2, .ref x2), (3, .ref x3), (4, .int x4)]) C (by decide) rfl dL_law_685 (r_aload_n C rfl 4 rfl dL_law_687 ?_)
        obtain ⟨hq166, hw⟩ := hw
        refine r_callV (ci := 2) (rest := []) (As := []) C sg_X3_thrown rfl rfl q2210 q2211 q2212 q90 q2213 rfl (Nat.le_of_ble_eq_true rfl) dL_law_688 rfl hq166 hp159 hp160 (c_X3_thrown G l x2 h165 _ hw) (k_I (fun r167 h168 hw => ?_))
        refine r_iload C 1 rfl dL_law_691 ?_
        refine r_icmp_eq (tgt := 698) C (by decide) dL_law_693 (fun hc169 => ?_) (fun hc169 => ?_)
        · have hw := hw.1 hc169
          refine r_iload C 1 rfl dL_law_698 ?_
          refine r_if_ne (tgt := 715) C (by decide) dL_law_700 (fun hc170 => ?_) (fun hc170 => ?_)
          · have hw := hw.1 hc170
            exact r_sub C [2, 3, 4, 5, 6] rfl (b_L_law_715 C hst LA23 hLA23 _ _ _ _ _ _ _ hp159 hp160 hw)
          · have hw := hw.2 hc170
            refine r_aload_n C rfl 5 rfl dL_law_703 (r_iconst (v := (0 : Int32)) C (by decide) dL_law_704 ?_)
            refine r_laload C dL_law_705 hw (fun v171 hw => ?_)
            refine r_iload C 0 rfl dL_law_706 (r_i2l C dL_law_708 (r_lcmp C dL_law_709 ?_))
            refine r_if_eq (tgt := 715) C (by decide) dL_law_710 (fun hc172 => ?_) (fun hc172 => ?_)
            · have hw := hw.1 hc172
              exact r_sub C [2, 3, 4, 5, 6] rfl (b_L_law_715 C hst LA23 hLA23 _ _ _ _ _ _ _ hp159 hp160 hw)
            · have hw := hw.2 hc172
              refine r_iconst (v := (0 : Int32)) C (by decide) dL_law_713 ?_
              exact r_zreturn (x := false) C dL_law_714 hp159 hp160 ⟨_, rfl, hw⟩
        · have hw := hw.2 hc169
          refine r_iconst (v := (0 : Int32)) C (by decide) dL_law_696 ?_
          exact r_zreturn (x := false) C dL_law_697 hp159 hp160 ⟨_, rfl, hw⟩
      | 10, _, e9 =>
        have e9 : ((gSx G) x4.toNatClampNeg) &&& (63 : Int32) = (10 : Int32) := e9.trans (by decide)
        have hw := hw.2.2.2.2.2.2.2.2.2.2.2.1 e9
        refine r_tableAt (k := (10 : Int32)) (off := 678) (tgt := 718) C e9 (by decide) (by decide) (by decide) (by decide) dL_law_40 ?_
        refine r_aload_n C rfl 1 rfl dL_law_718 (r_aload_n C rfl 0 rfl dL_law_719 (r_iload C 4 rfl dL_law_720 (r_iconst (v := (1 : Int32)) C (by decide) dL_law_722 (r_iadd C dL_law_723 ?_))))
        obtain ⟨hi173, hw⟩ := hw
        refine r_scrLd C hi173 dL_law_724 ?_
        refine r_aload_n C rfl 0 rfl dL_law_725 (r_iload C 4 rfl dL_law_726 (r_iconst (v := (2 : Int32)) C (by decide) dL_law_728 (r_iadd C dL_law_729 ?_)))
        obtain ⟨hi174, hw⟩ := hw
        refine r_scrLd C hi174 dL_law_730 ?_
        refine r_aload_n C rfl 3 rfl dL_law_731 ?_
        obtain ⟨k177, k178, hp179, hp180, hw⟩ := hw
        refine r_callSW (rest := []) (As := [.ref x1, .int ((gSx G) (x4 + (1 : Int32)).toNatClampNeg), .int ((gSx G) (x4 + (2 : Int32)).toNatClampNeg), .ref x3]) C sg_X0_isPossible q1682 q1683 q76 q1684 rfl (Nat.le_of_ble_eq_true rfl) dL_law_732 rfl hp179 hp180 (c_X0_isPossible G l k177 k178 x1 ((gSx G) (x4 + (1 : Int32)).toNatClampNeg) ((gSx G) (x4 + (2 : Int32)).toNatClampNeg) x3 h _ hst hw) (k_I (fun r175 h176 hw => ?_))
        refine r_istore (L' := [(5, .int r175), (0, .ref (gSb G)), (1, .ref x1), (2, .ref x2), (3, .ref x3), (4, .int x4)]) C (by decide) rfl dL_law_735 (r_aload_n C rfl 3 rfl dL_law_737 (r_aload_n C rfl 1 rfl dL_law_738 (r_iload C 5 rfl dL_law_739 (r_iconst (v := (1 : Int32)) C (by decide) dL_law_741 (r_iadd C dL_law_742 ?_)))))
        obtain ⟨hi181, hw⟩ := hw
        refine r_scrLd C hi181 dL_law_743 ?_
        refine r_aload_n C rfl 1 rfl dL_law_744 (r_iload C 5 rfl dL_law_745 (r_iconst (v := (2 : Int32)) C (by decide) dL_law_747 (r_iadd C dL_law_748 ?_)))
        obtain ⟨hi182, hw⟩ := hw
        refine r_scrLd C hi182 dL_law_749 ?_
        obtain ⟨hq183, hw⟩ := hw
        refine r_callV (ci := 2) (rest := []) (As := [.int ((gSx G) (x4 + (1 : Int32)).toNatClampNeg), .int ((gSx G) (x4 + (2 : Int32)).toNatClampNeg)]) C sg_X3_isPossible rfl rfl q2435 q2436 q2437 q90 q2438 rfl (Nat.le_of_ble_eq_true rfl) dL_law_750 rfl hq183 hp179 hp180 (c_X3_isPossible G l x2 ((gSx G) (x4 + (1 : Int32)).toNatClampNeg) ((gSx G) (x4 + (2 : Int32)).toNatClampNeg) h176 _ hw) (k_Z (fun r184 h185 hw => ?_))
        refine r_istore (L' := [(6, .int (bI r184)), (5, .int r175), (0, .ref (gSb G)), (1, .ref x1), (2, .ref x2), (3, .ref x3), (4, .int x4)]) C (by decide) rfl dL_law_753 (r_aload_n C rfl 4 rfl dL_law_755 ?_)
        obtain ⟨hq186, hw⟩ := hw
        refine r_callV (ci := 2) (rest := []) (As := []) C sg_X3_thrown rfl rfl q2210 q2211 q2212 q90 q2213 rfl (Nat.le_of_ble_eq_true rfl) dL_law_756 rfl hq186 hp179 hp180 (c_X3_thrown G l x2 h185 _ hw) (k_I (fun r187 h188 hw => ?_))
        refine r_iload C 1 rfl dL_law_759 ?_
        refine r_icmp_eq (tgt := 766) C (by decide) dL_law_761 (fun hc189 => ?_) (fun hc189 => ?_)
        · have hw := hw.1 hc189
          refine r_iload C 1 rfl dL_law_766 ?_
          refine r_if_ne (tgt := 790) C (by decide) dL_law_768 (fun hc190 => ?_) (fun hc190 => ?_)
          · have hw := hw.1 hc190
            exact r_sub C [2, 3, 4, 5, 6] rfl (b_L_law_790 C hst LA23 hLA23 _ _ _ _ _ _ _ hp179 hp180 hw)
          · have hw := hw.2 hc190
            refine r_aload_n C rfl 5 rfl dL_law_771 (r_iconst (v := (0 : Int32)) C (by decide) dL_law_772 ?_)
            refine r_laload C dL_law_773 hw (fun v191 hw => ?_)
            refine r_iload C 0 rfl dL_law_774 ?_
            have hJ : V h188 (c + k177) (n + k178) 784 [(0, .ref (gSb G)), (1, .ref x1), (2, .ref x2), (3, .ref x3), (4, .int x4)] [.long (if r184 = false then (0 : Int64) else (1 : Int64)), .long v191] := by
              refine r_lcmp C dL_law_784 ?_
              refine r_if_eq (tgt := 790) C (by decide) dL_law_785 (fun hc192 => ?_) (fun hc192 => ?_)
              · have hw := hw.1 hc192
                exact r_sub C [0, 1, 2, 3, 4] rfl (b_L_law_790 C hst LA23 hLA23 _ _ _ _ _ _ _ hp179 hp180 hw)
              · have hw := hw.2 hc192
                refine r_iconst (v := (0 : Int32)) C (by decide) dL_law_788 ?_
                exact r_zreturn (x := false) C dL_law_789 hp179 hp180 ⟨_, rfl, hw⟩
            refine r_if_eq_b (tgt := 783) C (by decide) dL_law_776 (fun hc193 => ?_) (fun hc193 => ?_)
            · have hJ194 := hJ
              try simp only [if_pos hc193] at hJ194
              refine r_lconst (v := (0 : Int64)) C (by decide) dL_law_783 ?_
              exact r_sub C [2, 3, 4, 5, 6] rfl hJ194
            · have hJ194 := hJ
              try simp only [if_neg (show ¬ r184 = false from by rw [hc193]; decide)] at hJ194
              refine r_lconst (v := (1 : Int64)) C (by decide) dL_law_779 (r_goto (tgt := 784) C (by decide) dL_law_780 ?_)
              exact r_sub C [2, 3, 4, 5, 6] rfl hJ194
        · have hw := hw.2 hc189
          refine r_iconst (v := (0 : Int32)) C (by decide) dL_law_764 ?_
          exact r_zreturn (x := false) C dL_law_765 hp179 hp180 ⟨_, rfl, hw⟩
      | 11, _, e9 =>
        have e9 : ((gSx G) x4.toNatClampNeg) &&& (63 : Int32) = (11 : Int32) := e9.trans (by decide)
        have hw := hw.2.2.2.2.2.2.2.2.2.2.2.2.1 e9
        refine r_tableAt (k := (11 : Int32)) (off := 753) (tgt := 793) C e9 (by decide) (by decide) (by decide) (by decide) dL_law_40 ?_
        refine r_aload_n C rfl 1 rfl dL_law_793 (r_aload_n C rfl 0 rfl dL_law_794 (r_iload C 4 rfl dL_law_795 (r_iconst (v := (1 : Int32)) C (by decide) dL_law_797 (r_iadd C dL_law_798 ?_))))
        obtain ⟨hi195, hw⟩ := hw
        refine r_scrLd C hi195 dL_law_799 ?_
        refine r_aload_n C rfl 0 rfl dL_law_800 (r_iload C 4 rfl dL_law_801 (r_iconst (v := (2 : Int32)) C (by decide) dL_law_803 (r_iadd C dL_law_804 ?_)))
        obtain ⟨hi196, hw⟩ := hw
        refine r_scrLd C hi196 dL_law_805 ?_
        refine r_aload_n C rfl 3 rfl dL_law_806 ?_
        obtain ⟨k199, k200, hp201, hp202, hw⟩ := hw
        refine r_callSW (rest := []) (As := [.ref x1, .int ((gSx G) (x4 + (1 : Int32)).toNatClampNeg), .int ((gSx G) (x4 + (2 : Int32)).toNatClampNeg), .ref x3]) C sg_X0_charter q1693 q1694 q76 q1695 rfl (Nat.le_of_ble_eq_true rfl) dL_law_807 rfl hp201 hp202 (c_X0_charter G l k199 k200 x1 ((gSx G) (x4 + (1 : Int32)).toNatClampNeg) ((gSx G) (x4 + (2 : Int32)).toNatClampNeg) x3 h _ hst hw) (k_I (fun r197 h198 hw => ?_))
        refine r_istore (L' := [(5, .int r197), (0, .ref (gSb G)), (1, .ref x1), (2, .ref x2), (3, .ref x3), (4, .int x4)]) C (by decide) rfl dL_law_810 (r_aload_n C rfl 3 rfl dL_law_812 (r_aload_n C rfl 1 rfl dL_law_813 (r_iload C 5 rfl dL_law_814 (r_iconst (v := (1 : Int32)) C (by decide) dL_law_816 (r_iadd C dL_law_817 ?_)))))
        obtain ⟨hi203, hw⟩ := hw
        refine r_scrLd C hi203 dL_law_818 ?_
        refine r_aload_n C rfl 1 rfl dL_law_819 (r_iload C 5 rfl dL_law_820 (r_iconst (v := (2 : Int32)) C (by decide) dL_law_822 (r_iadd C dL_law_823 ?_)))
        obtain ⟨hi204, hw⟩ := hw
        refine r_scrLd C hi204 dL_law_824 ?_
        obtain ⟨hq205, hw⟩ := hw
        refine r_callV (ci := 2) (rest := []) (As := [.int ((gSx G) (x4 + (1 : Int32)).toNatClampNeg), .int ((gSx G) (x4 + (2 : Int32)).toNatClampNeg)]) C sg_X3_charter rfl rfl q2448 q2449 q2450 q90 q2451 rfl (Nat.le_of_ble_eq_true rfl) dL_law_825 rfl hq205 hp201 hp202 (c_X3_charter G l x2 ((gSx G) (x4 + (1 : Int32)).toNatClampNeg) ((gSx G) (x4 + (2 : Int32)).toNatClampNeg) h198 _ hw) (k_I (fun r206 h207 hw => ?_))
        refine r_istore (L' := [(6, .int r206), (5, .int r197), (0, .ref (gSb G)), (1, .ref x1), (2, .ref x2), (3, .ref x3), (4, .int x4)]) C (by decide) rfl dL_law_828 (r_aload_n C rfl 4 rfl dL_law_830 ?_)
        obtain ⟨hq208, hw⟩ := hw
        refine r_callV (ci := 2) (rest := []) (As := []) C sg_X3_thrown rfl rfl q2210 q2211 q2212 q90 q2213 rfl (Nat.le_of_ble_eq_true rfl) dL_law_831 rfl hq208 hp201 hp202 (c_X3_thrown G l x2 h207 _ hw) (k_I (fun r209 h210 hw => ?_))
        refine r_iload C 1 rfl dL_law_834 ?_
        refine r_icmp_eq (tgt := 841) C (by decide) dL_law_836 (fun hc211 => ?_) (fun hc211 => ?_)
        · have hw := hw.1 hc211
          refine r_iload C 1 rfl dL_law_841 ?_
          refine r_if_ne (tgt := 858) C (by decide) dL_law_843 (fun hc212 => ?_) (fun hc212 => ?_)
          · have hw := hw.1 hc212
            exact r_sub C [2, 3, 4, 5, 6] rfl (b_L_law_858 C hst LA23 hLA23 _ _ _ _ _ _ _ hp201 hp202 hw)
          · have hw := hw.2 hc212
            refine r_aload_n C rfl 5 rfl dL_law_846 (r_iconst (v := (0 : Int32)) C (by decide) dL_law_847 ?_)
            refine r_laload C dL_law_848 hw (fun v213 hw => ?_)
            refine r_iload C 0 rfl dL_law_849 (r_i2l C dL_law_851 (r_lcmp C dL_law_852 ?_))
            refine r_if_eq (tgt := 858) C (by decide) dL_law_853 (fun hc214 => ?_) (fun hc214 => ?_)
            · have hw := hw.1 hc214
              exact r_sub C [2, 3, 4, 5, 6] rfl (b_L_law_858 C hst LA23 hLA23 _ _ _ _ _ _ _ hp201 hp202 hw)
            · have hw := hw.2 hc214
              refine r_iconst (v := (0 : Int32)) C (by decide) dL_law_856 ?_
              exact r_zreturn (x := false) C dL_law_857 hp201 hp202 ⟨_, rfl, hw⟩
        · have hw := hw.2 hc211
          refine r_iconst (v := (0 : Int32)) C (by decide) dL_law_839 ?_
          exact r_zreturn (x := false) C dL_law_840 hp201 hp202 ⟨_, rfl, hw⟩
      | 12, _, e9 =>
        have e9 : ((gSx G) x4.toNatClampNeg) &&& (63 : Int32) = (12 : Int32) := e9.trans (by decide)
        have hw := hw.2.2.2.2.2.2.2.2.2.2.2.2.2.1 e9
        refine r_tableAt (k := (12 : Int32)) (off := 821) (tgt := 861) C e9 (by decide) (by decide) (by decide) (by decide) dL_law_40 ?_
        refine r_aload_n C rfl 1 rfl dL_law_861 (r_aload_n C rfl 0 rfl dL_law_862 (r_iload C 4 rfl dL_law_863 (r_iconst (v := (1 : Int32)) C (by decide) dL_law_865 (r_iadd C dL_law_866 ?_))))
        obtain ⟨hi215, hw⟩ := hw
        refine r_scrLd C hi215 dL_law_867 ?_
        refine r_aload_n C rfl 0 rfl dL_law_868 (r_iload C 4 rfl dL_law_869 (r_iconst (v := (2 : Int32)) C (by decide) dL_law_871 (r_iadd C dL_law_872 ?_)))
        obtain ⟨hi216, hw⟩ := hw
        refine r_scrLd C hi216 dL_law_873 ?_
        refine r_aload_n C rfl 3 rfl dL_law_874 ?_
        obtain ⟨k219, k220, hp221, hp222, hw⟩ := hw
        refine r_callSW (rest := []) (As := [.ref x1, .int ((gSx G) (x4 + (1 : Int32)).toNatClampNeg), .int ((gSx G) (x4 + (2 : Int32)).toNatClampNeg), .ref x3]) C sg_X0_onShelf q1705 q1706 q76 q1707 rfl (Nat.le_of_ble_eq_true rfl) dL_law_875 rfl hp221 hp222 (c_X0_onShelf G l k219 k220 x1 ((gSx G) (x4 + (1 : Int32)).toNatClampNeg) ((gSx G) (x4 + (2 : Int32)).toNatClampNeg) x3 h _ hst hw) (k_I (fun r217 h218 hw => ?_))
        refine r_istore (L' := [(5, .int r217), (0, .ref (gSb G)), (1, .ref x1), (2, .ref x2), (3, .ref x3), (4, .int x4)]) C (by decide) rfl dL_law_878 (r_aload_n C rfl 3 rfl dL_law_880 (r_aload_n C rfl 1 rfl dL_law_881 (r_iload C 5 rfl dL_law_882 (r_iconst (v := (1 : Int32)) C (by decide) dL_law_884 (r_iadd C dL_law_885 ?_)))))
        obtain ⟨hi223, hw⟩ := hw
        refine r_scrLd C hi223 dL_law_886 ?_
        refine r_aload_n C rfl 1 rfl dL_law_887 (r_iload C 5 rfl dL_law_888 (r_iconst (v := (2 : Int32)) C (by decide) dL_law_890 (r_iadd C dL_law_891 ?_)))
        obtain ⟨hi224, hw⟩ := hw
        refine r_scrLd C hi224 dL_law_892 ?_
        obtain ⟨hq225, hw⟩ := hw
        refine r_callV (ci := 2) (rest := []) (As := [.int ((gSx G) (x4 + (1 : Int32)).toNatClampNeg), .int ((gSx G) (x4 + (2 : Int32)).toNatClampNeg)]) C sg_X3_onShelf rfl rfl q2456 q2457 q2458 q90 q2459 rfl (Nat.le_of_ble_eq_true rfl) dL_law_893 rfl hq225 hp221 hp222 (c_X3_onShelf G l x2 ((gSx G) (x4 + (1 : Int32)).toNatClampNeg) ((gSx G) (x4 + (2 : Int32)).toNatClampNeg) h218 _ hw) (k_I (fun r226 h227 hw => ?_))
        refine r_istore (L' := [(6, .int r226), (5, .int r217), (0, .ref (gSb G)), (1, .ref x1), (2, .ref x2), (3, .ref x3), (4, .int x4)]) C (by decide) rfl dL_law_896 (r_aload_n C rfl 4 rfl dL_law_898 ?_)
        obtain ⟨hq228, hw⟩ := hw
        refine r_callV (ci := 2) (rest := []) (As := []) C sg_X3_thrown rfl rfl q2210 q2211 q2212 q90 q2213 rfl (Nat.le_of_ble_eq_true rfl) dL_law_899 rfl hq228 hp221 hp222 (c_X3_thrown G l x2 h227 _ hw) (k_I (fun r229 h230 hw => ?_))
        refine r_iload C 1 rfl dL_law_902 ?_
        refine r_icmp_eq (tgt := 909) C (by decide) dL_law_904 (fun hc231 => ?_) (fun hc231 => ?_)
        · have hw := hw.1 hc231
          refine r_iload C 1 rfl dL_law_909 ?_
          refine r_if_ne (tgt := 926) C (by decide) dL_law_911 (fun hc232 => ?_) (fun hc232 => ?_)
          · have hw := hw.1 hc232
            exact r_sub C [2, 3, 4, 5, 6] rfl (b_L_law_926 C hst LA23 hLA23 _ _ _ _ _ _ _ hp221 hp222 hw)
          · have hw := hw.2 hc232
            refine r_aload_n C rfl 5 rfl dL_law_914 (r_iconst (v := (0 : Int32)) C (by decide) dL_law_915 ?_)
            refine r_laload C dL_law_916 hw (fun v233 hw => ?_)
            refine r_iload C 0 rfl dL_law_917 (r_i2l C dL_law_919 (r_lcmp C dL_law_920 ?_))
            refine r_if_eq (tgt := 926) C (by decide) dL_law_921 (fun hc234 => ?_) (fun hc234 => ?_)
            · have hw := hw.1 hc234
              exact r_sub C [2, 3, 4, 5, 6] rfl (b_L_law_926 C hst LA23 hLA23 _ _ _ _ _ _ _ hp221 hp222 hw)
            · have hw := hw.2 hc234
              refine r_iconst (v := (0 : Int32)) C (by decide) dL_law_924 ?_
              exact r_zreturn (x := false) C dL_law_925 hp221 hp222 ⟨_, rfl, hw⟩
        · have hw := hw.2 hc231
          refine r_iconst (v := (0 : Int32)) C (by decide) dL_law_907 ?_
          exact r_zreturn (x := false) C dL_law_908 hp221 hp222 ⟨_, rfl, hw⟩
      | 13, _, e9 =>
        have e9 : ((gSx G) x4.toNatClampNeg) &&& (63 : Int32) = (13 : Int32) := e9.trans (by decide)
        have hw := hw.2.2.2.2.2.2.2.2.2.2.2.2.2.2.1 e9
        refine r_tableAt (k := (13 : Int32)) (off := 889) (tgt := 929) C e9 (by decide) (by decide) (by decide) (by decide) dL_law_40 ?_
        refine r_aload_n C rfl 1 rfl dL_law_929 (r_aload_n C rfl 0 rfl dL_law_930 (r_iload C 4 rfl dL_law_931 (r_iconst (v := (1 : Int32)) C (by decide) dL_law_933 (r_iadd C dL_law_934 ?_))))
        obtain ⟨hi235, hw⟩ := hw
        refine r_scrLd C hi235 dL_law_935 ?_
        refine r_aload_n C rfl 0 rfl dL_law_936 (r_iload C 4 rfl dL_law_937 (r_iconst (v := (2 : Int32)) C (by decide) dL_law_939 (r_iadd C dL_law_940 ?_)))
        obtain ⟨hi236, hw⟩ := hw
        refine r_scrLd C hi236 dL_law_941 ?_
        refine r_aload_n C rfl 3 rfl dL_law_942 ?_
        obtain ⟨k239, k240, hp241, hp242, hw⟩ := hw
        refine r_callSW (rest := []) (As := [.ref x1, .int ((gSx G) (x4 + (1 : Int32)).toNatClampNeg), .int ((gSx G) (x4 + (2 : Int32)).toNatClampNeg), .ref x3]) C sg_X0_reign q1717 q1718 q76 q1719 rfl (Nat.le_of_ble_eq_true rfl) dL_law_943 rfl hp241 hp242 (c_X0_reign G l k239 k240 x1 ((gSx G) (x4 + (1 : Int32)).toNatClampNeg) ((gSx G) (x4 + (2 : Int32)).toNatClampNeg) x3 h _ hst hw) (k_I (fun r237 h238 hw => ?_))
        refine r_istore (L' := [(5, .int r237), (0, .ref (gSb G)), (1, .ref x1), (2, .ref x2), (3, .ref x3), (4, .int x4)]) C (by decide) rfl dL_law_946 (r_aload_n C rfl 3 rfl dL_law_948 (r_aload_n C rfl 1 rfl dL_law_949 (r_iload C 5 rfl dL_law_950 (r_iconst (v := (1 : Int32)) C (by decide) dL_law_952 (r_iadd C dL_law_953 ?_)))))
        obtain ⟨hi243, hw⟩ := hw
        refine r_scrLd C hi243 dL_law_954 ?_
        refine r_aload_n C rfl 1 rfl dL_law_955 (r_iload C 5 rfl dL_law_956 (r_iconst (v := (2 : Int32)) C (by decide) dL_law_958 (r_iadd C dL_law_959 ?_)))
        obtain ⟨hi244, hw⟩ := hw
        refine r_scrLd C hi244 dL_law_960 ?_
        obtain ⟨hq245, hw⟩ := hw
        refine r_callV (ci := 2) (rest := []) (As := [.int ((gSx G) (x4 + (1 : Int32)).toNatClampNeg), .int ((gSx G) (x4 + (2 : Int32)).toNatClampNeg)]) C sg_X3_reign rfl rfl q2463 q2464 q2465 q90 q2466 rfl (Nat.le_of_ble_eq_true rfl) dL_law_961 rfl hq245 hp241 hp242 (c_X3_reign G l x2 ((gSx G) (x4 + (1 : Int32)).toNatClampNeg) ((gSx G) (x4 + (2 : Int32)).toNatClampNeg) h238 _ hw) (k_I (fun r246 h247 hw => ?_))
        refine r_istore (L' := [(6, .int r246), (5, .int r237), (0, .ref (gSb G)), (1, .ref x1), (2, .ref x2), (3, .ref x3), (4, .int x4)]) C (by decide) rfl dL_law_964 (r_aload_n C rfl 4 rfl dL_law_966 ?_)
        obtain ⟨hq248, hw⟩ := hw
        refine r_callV (ci := 2) (rest := []) (As := []) C sg_X3_thrown rfl rfl q2210 q2211 q2212 q90 q2213 rfl (Nat.le_of_ble_eq_true rfl) dL_law_967 rfl hq248 hp241 hp242 (c_X3_thrown G l x2 h247 _ hw) (k_I (fun r249 h250 hw => ?_))
        refine r_iload C 1 rfl dL_law_970 ?_
        refine r_icmp_eq (tgt := 977) C (by decide) dL_law_972 (fun hc251 => ?_) (fun hc251 => ?_)
        · have hw := hw.1 hc251
          refine r_iload C 1 rfl dL_law_977 ?_
          refine r_if_ne (tgt := 994) C (by decide) dL_law_979 (fun hc252 => ?_) (fun hc252 => ?_)
          · have hw := hw.1 hc252
            exact r_sub C [2, 3, 4, 5, 6] rfl (b_L_law_994 C hst LA23 hLA23 _ _ _ _ _ _ _ hp241 hp242 hw)
          · have hw := hw.2 hc252
            refine r_aload_n C rfl 5 rfl dL_law_982 (r_iconst (v := (0 : Int32)) C (by decide) dL_law_983 ?_)
            refine r_laload C dL_law_984 hw (fun v253 hw => ?_)
            refine r_iload C 0 rfl dL_law_985 (r_i2l C dL_law_987 (r_lcmp C dL_law_988 ?_))
            refine r_if_eq (tgt := 994) C (by decide) dL_law_989 (fun hc254 => ?_) (fun hc254 => ?_)
            · have hw := hw.1 hc254
              exact r_sub C [2, 3, 4, 5, 6] rfl (b_L_law_994 C hst LA23 hLA23 _ _ _ _ _ _ _ hp241 hp242 hw)
            · have hw := hw.2 hc254
              refine r_iconst (v := (0 : Int32)) C (by decide) dL_law_992 ?_
              exact r_zreturn (x := false) C dL_law_993 hp241 hp242 ⟨_, rfl, hw⟩
        · have hw := hw.2 hc251
          refine r_iconst (v := (0 : Int32)) C (by decide) dL_law_975 ?_
          exact r_zreturn (x := false) C dL_law_976 hp241 hp242 ⟨_, rfl, hw⟩
      | 14, _, e9 =>
        have e9 : ((gSx G) x4.toNatClampNeg) &&& (63 : Int32) = (14 : Int32) := e9.trans (by decide)
        have hw := hw.2.2.2.2.2.2.2.2.2.2.2.2.2.2.2.1 e9
        refine r_tableAt (k := (14 : Int32)) (off := 957) (tgt := 997) C e9 (by decide) (by decide) (by decide) (by decide) dL_law_40 ?_
        refine r_aload_n C rfl 1 rfl dL_law_997 (r_aload_n C rfl 0 rfl dL_law_998 (r_iload C 4 rfl dL_law_999 (r_iconst (v := (1 : Int32)) C (by decide) dL_law_1001 (r_iadd C dL_law_1002 ?_))))
        obtain ⟨hi255, hw⟩ := hw
        refine r_scrLd C hi255 dL_law_1003 ?_
        refine r_aload_n C rfl 0 rfl dL_law_1004 (r_iload C 4 rfl dL_law_1005 (r_iconst (v := (2 : Int32)) C (by decide) dL_law_1007 (r_iadd C dL_law_1008 ?_)))
        obtain ⟨hi256, hw⟩ := hw
        refine r_scrLd C hi256 dL_law_1009 ?_
        refine r_aload_n C rfl 0 rfl dL_law_1010 (r_iload C 4 rfl dL_law_1011 (r_iconst (v := (3 : Int32)) C (by decide) dL_law_1013 (r_iadd C dL_law_1014 ?_)))
        obtain ⟨hi257, hw⟩ := hw
        refine r_scrLd C hi257 dL_law_1015 ?_
        refine r_aload_n C rfl 3 rfl dL_law_1016 ?_
        obtain ⟨k260, k261, hp262, hp263, hw⟩ := hw
        refine r_callSW (rest := []) (As := [.ref x1, .int ((gSx G) (x4 + (1 : Int32)).toNatClampNeg), .int ((gSx G) (x4 + (2 : Int32)).toNatClampNeg), .int ((gSx G) (x4 + (3 : Int32)).toNatClampNeg), .ref x3]) C sg_X0_die q1798 q1799 q76 q1800 rfl (Nat.le_of_ble_eq_true rfl) dL_law_1017 rfl hp262 hp263 (c_X0_die G l k260 k261 x1 ((gSx G) (x4 + (1 : Int32)).toNatClampNeg) ((gSx G) (x4 + (2 : Int32)).toNatClampNeg) ((gSx G) (x4 + (3 : Int32)).toNatClampNeg) x3 h _ hst hw) (k_I (fun r258 h259 hw => ?_))
        refine r_istore (L' := [(5, .int r258), (0, .ref (gSb G)), (1, .ref x1), (2, .ref x2), (3, .ref x3), (4, .int x4)]) C (by decide) rfl dL_law_1020 (r_aload_n C rfl 3 rfl dL_law_1022 (r_aload_n C rfl 1 rfl dL_law_1023 (r_iload C 5 rfl dL_law_1024 (r_iconst (v := (1 : Int32)) C (by decide) dL_law_1026 (r_iadd C dL_law_1027 ?_)))))
        obtain ⟨hi264, hw⟩ := hw
        refine r_scrLd C hi264 dL_law_1028 ?_
        refine r_aload_n C rfl 1 rfl dL_law_1029 (r_iload C 5 rfl dL_law_1030 (r_iconst (v := (2 : Int32)) C (by decide) dL_law_1032 (r_iadd C dL_law_1033 ?_)))
        obtain ⟨hi265, hw⟩ := hw
        refine r_scrLd C hi265 dL_law_1034 ?_
        refine r_aload_n C rfl 1 rfl dL_law_1035 (r_iload C 5 rfl dL_law_1036 (r_iconst (v := (3 : Int32)) C (by decide) dL_law_1038 (r_iadd C dL_law_1039 ?_)))
        obtain ⟨hi266, hw⟩ := hw
        refine r_scrLd C hi266 dL_law_1040 ?_
        obtain ⟨hq267, hw⟩ := hw
        refine r_callV (ci := 2) (rest := []) (As := [.int ((gSx G) (x4 + (1 : Int32)).toNatClampNeg), .int ((gSx G) (x4 + (2 : Int32)).toNatClampNeg), .int ((gSx G) (x4 + (3 : Int32)).toNatClampNeg)]) C sg_X3_die rfl rfl q2471 q2472 q2473 q90 q2474 rfl (Nat.le_of_ble_eq_true rfl) dL_law_1041 rfl hq267 hp262 hp263 (c_X3_die G l x2 ((gSx G) (x4 + (1 : Int32)).toNatClampNeg) ((gSx G) (x4 + (2 : Int32)).toNatClampNeg) ((gSx G) (x4 + (3 : Int32)).toNatClampNeg) h259 _ hw) (k_I (fun r268 h269 hw => ?_))
        refine r_istore (L' := [(6, .int r268), (5, .int r258), (0, .ref (gSb G)), (1, .ref x1), (2, .ref x2), (3, .ref x3), (4, .int x4)]) C (by decide) rfl dL_law_1044 (r_aload_n C rfl 4 rfl dL_law_1046 ?_)
        obtain ⟨hq270, hw⟩ := hw
        refine r_callV (ci := 2) (rest := []) (As := []) C sg_X3_thrown rfl rfl q2210 q2211 q2212 q90 q2213 rfl (Nat.le_of_ble_eq_true rfl) dL_law_1047 rfl hq270 hp262 hp263 (c_X3_thrown G l x2 h269 _ hw) (k_I (fun r271 h272 hw => ?_))
        refine r_iload C 1 rfl dL_law_1050 ?_
        refine r_icmp_eq (tgt := 1057) C (by decide) dL_law_1052 (fun hc273 => ?_) (fun hc273 => ?_)
        · have hw := hw.1 hc273
          refine r_iload C 1 rfl dL_law_1057 ?_
          refine r_if_ne (tgt := 1074) C (by decide) dL_law_1059 (fun hc274 => ?_) (fun hc274 => ?_)
          · have hw := hw.1 hc274
            exact r_sub C [2, 3, 4, 5, 6] rfl (b_L_law_1074 C hst LA23 hLA23 _ _ _ _ _ _ _ hp262 hp263 hw)
          · have hw := hw.2 hc274
            refine r_aload_n C rfl 5 rfl dL_law_1062 (r_iconst (v := (0 : Int32)) C (by decide) dL_law_1063 ?_)
            refine r_laload C dL_law_1064 hw (fun v275 hw => ?_)
            refine r_iload C 0 rfl dL_law_1065 (r_i2l C dL_law_1067 (r_lcmp C dL_law_1068 ?_))
            refine r_if_eq (tgt := 1074) C (by decide) dL_law_1069 (fun hc276 => ?_) (fun hc276 => ?_)
            · have hw := hw.1 hc276
              exact r_sub C [2, 3, 4, 5, 6] rfl (b_L_law_1074 C hst LA23 hLA23 _ _ _ _ _ _ _ hp262 hp263 hw)
            · have hw := hw.2 hc276
              refine r_iconst (v := (0 : Int32)) C (by decide) dL_law_1072 ?_
              exact r_zreturn (x := false) C dL_law_1073 hp262 hp263 ⟨_, rfl, hw⟩
        · have hw := hw.2 hc273
          refine r_iconst (v := (0 : Int32)) C (by decide) dL_law_1055 ?_
          exact r_zreturn (x := false) C dL_law_1056 hp262 hp263 ⟨_, rfl, hw⟩
      | 15, _, e9 =>
        have e9 : ((gSx G) x4.toNatClampNeg) &&& (63 : Int32) = (15 : Int32) := e9.trans (by decide)
        have hw := hw.2.2.2.2.2.2.2.2.2.2.2.2.2.2.2.2.1 e9
        refine r_tableAt (k := (15 : Int32)) (off := 1037) (tgt := 1077) C e9 (by decide) (by decide) (by decide) (by decide) dL_law_40 ?_
        refine r_aload_n C rfl 1 rfl dL_law_1077 (r_aload_n C rfl 0 rfl dL_law_1078 (r_iload C 4 rfl dL_law_1079 (r_iconst (v := (1 : Int32)) C (by decide) dL_law_1081 (r_iadd C dL_law_1082 ?_))))
        obtain ⟨hi277, hw⟩ := hw
        refine r_scrLd C hi277 dL_law_1083 ?_
        refine r_aload_n C rfl 0 rfl dL_law_1084 (r_iload C 4 rfl dL_law_1085 (r_iconst (v := (2 : Int32)) C (by decide) dL_law_1087 (r_iadd C dL_law_1088 ?_)))
        obtain ⟨hi278, hw⟩ := hw
        refine r_scrLd C hi278 dL_law_1089 ?_
        refine r_aload_n C rfl 3 rfl dL_law_1090 ?_
        obtain ⟨k281, k282, hp283, hp284, hw⟩ := hw
        refine r_callSW (rest := []) (As := [.ref x1, .int ((gSx G) (x4 + (1 : Int32)).toNatClampNeg), .int ((gSx G) (x4 + (2 : Int32)).toNatClampNeg), .ref x3]) C sg_X0_crack q1805 q1806 q76 q1807 rfl (Nat.le_of_ble_eq_true rfl) dL_law_1091 rfl hp283 hp284 (c_X0_crack G l k281 k282 x1 ((gSx G) (x4 + (1 : Int32)).toNatClampNeg) ((gSx G) (x4 + (2 : Int32)).toNatClampNeg) x3 h _ hst hw) (k_I (fun r279 h280 hw => ?_))
        refine r_istore (L' := [(5, .int r279), (0, .ref (gSb G)), (1, .ref x1), (2, .ref x2), (3, .ref x3), (4, .int x4)]) C (by decide) rfl dL_law_1094 (r_aload_n C rfl 3 rfl dL_law_1096 (r_aload_n C rfl 1 rfl dL_law_1097 (r_iload C 5 rfl dL_law_1098 (r_iconst (v := (1 : Int32)) C (by decide) dL_law_1100 (r_iadd C dL_law_1101 ?_)))))
        obtain ⟨hi285, hw⟩ := hw
        refine r_scrLd C hi285 dL_law_1102 ?_
        refine r_aload_n C rfl 1 rfl dL_law_1103 (r_iload C 5 rfl dL_law_1104 (r_iconst (v := (2 : Int32)) C (by decide) dL_law_1106 (r_iadd C dL_law_1107 ?_)))
        obtain ⟨hi286, hw⟩ := hw
        refine r_scrLd C hi286 dL_law_1108 ?_
        obtain ⟨hq287, hw⟩ := hw
        refine r_callV (ci := 2) (rest := []) (As := [.int ((gSx G) (x4 + (1 : Int32)).toNatClampNeg), .int ((gSx G) (x4 + (2 : Int32)).toNatClampNeg)]) C sg_X3_crack rfl rfl q2478 q2479 q2480 q90 q2481 rfl (Nat.le_of_ble_eq_true rfl) dL_law_1109 rfl hq287 hp283 hp284 (c_X3_crack G l x2 ((gSx G) (x4 + (1 : Int32)).toNatClampNeg) ((gSx G) (x4 + (2 : Int32)).toNatClampNeg) h280 _ hw) (k_I (fun r288 h289 hw => ?_))
        refine r_istore (L' := [(6, .int r288), (5, .int r279), (0, .ref (gSb G)), (1, .ref x1), (2, .ref x2), (3, .ref x3), (4, .int x4)]) C (by decide) rfl dL_law_1112 (r_aload_n C rfl 4 rfl dL_law_1114 ?_)
        obtain ⟨hq290, hw⟩ := hw
        refine r_callV (ci := 2) (rest := []) (As := []) C sg_X3_thrown rfl rfl q2210 q2211 q2212 q90 q2213 rfl (Nat.le_of_ble_eq_true rfl) dL_law_1115 rfl hq290 hp283 hp284 (c_X3_thrown G l x2 h289 _ hw) (k_I (fun r291 h292 hw => ?_))
        refine r_iload C 1 rfl dL_law_1118 ?_
        refine r_icmp_eq (tgt := 1125) C (by decide) dL_law_1120 (fun hc293 => ?_) (fun hc293 => ?_)
        · have hw := hw.1 hc293
          refine r_iload C 1 rfl dL_law_1125 ?_
          refine r_if_ne (tgt := 1142) C (by decide) dL_law_1127 (fun hc294 => ?_) (fun hc294 => ?_)
          · have hw := hw.1 hc294
            exact r_sub C [2, 3, 4, 5, 6] rfl (b_L_law_1142 C hst LA23 hLA23 _ _ _ _ _ _ _ hp283 hp284 hw)
          · have hw := hw.2 hc294
            refine r_aload_n C rfl 5 rfl dL_law_1130 (r_iconst (v := (0 : Int32)) C (by decide) dL_law_1131 ?_)
            refine r_laload C dL_law_1132 hw (fun v295 hw => ?_)
            refine r_iload C 0 rfl dL_law_1133 (r_i2l C dL_law_1135 (r_lcmp C dL_law_1136 ?_))
            refine r_if_eq (tgt := 1142) C (by decide) dL_law_1137 (fun hc296 => ?_) (fun hc296 => ?_)
            · have hw := hw.1 hc296
              exact r_sub C [2, 3, 4, 5, 6] rfl (b_L_law_1142 C hst LA23 hLA23 _ _ _ _ _ _ _ hp283 hp284 hw)
            · have hw := hw.2 hc296
              refine r_iconst (v := (0 : Int32)) C (by decide) dL_law_1140 ?_
              exact r_zreturn (x := false) C dL_law_1141 hp283 hp284 ⟨_, rfl, hw⟩
        · have hw := hw.2 hc293
          refine r_iconst (v := (0 : Int32)) C (by decide) dL_law_1123 ?_
          exact r_zreturn (x := false) C dL_law_1124 hp283 hp284 ⟨_, rfl, hw⟩
      | 16, _, e9 =>
        have e9 : ((gSx G) x4.toNatClampNeg) &&& (63 : Int32) = (16 : Int32) := e9.trans (by decide)
        have hw := hw.2.2.2.2.2.2.2.2.2.2.2.2.2.2.2.2.2.1 e9
        refine r_tableAt (k := (16 : Int32)) (off := 1105) (tgt := 1145) C e9 (by decide) (by decide) (by decide) (by decide) dL_law_40 ?_
        refine r_aload_n C rfl 1 rfl dL_law_1145 (r_aload_n C rfl 0 rfl dL_law_1146 (r_iload C 4 rfl dL_law_1147 (r_iconst (v := (1 : Int32)) C (by decide) dL_law_1149 (r_iadd C dL_law_1150 ?_))))
        obtain ⟨hi297, hw⟩ := hw
        refine r_scrLd C hi297 dL_law_1151 ?_
        refine r_aload_n C rfl 0 rfl dL_law_1152 (r_iload C 4 rfl dL_law_1153 (r_iconst (v := (2 : Int32)) C (by decide) dL_law_1155 (r_iadd C dL_law_1156 ?_)))
        obtain ⟨hi298, hw⟩ := hw
        refine r_scrLd C hi298 dL_law_1157 ?_
        refine r_aload_n C rfl 0 rfl dL_law_1158 (r_iload C 4 rfl dL_law_1159 (r_iconst (v := (3 : Int32)) C (by decide) dL_law_1161 (r_iadd C dL_law_1162 ?_)))
        obtain ⟨hi299, hw⟩ := hw
        refine r_scrLd C hi299 dL_law_1163 ?_
        refine r_aload_n C rfl 0 rfl dL_law_1164 (r_iload C 4 rfl dL_law_1165 (r_iconst (v := (4 : Int32)) C (by decide) dL_law_1167 (r_iadd C dL_law_1168 ?_)))
        obtain ⟨hi300, hw⟩ := hw
        refine r_scrLd C hi300 dL_law_1169 ?_
        refine r_aload_n C rfl 0 rfl dL_law_1170 (r_iload C 4 rfl dL_law_1171 (r_iconst (v := (5 : Int32)) C (by decide) dL_law_1173 (r_iadd C dL_law_1174 ?_)))
        obtain ⟨hi301, hw⟩ := hw
        refine r_scrLd C hi301 dL_law_1175 ?_
        refine r_aload_n C rfl 3 rfl dL_law_1176 ?_
        obtain ⟨k304, k305, hp306, hp307, hw⟩ := hw
        refine r_callSW (rest := []) (As := [.ref x1, .int ((gSx G) (x4 + (1 : Int32)).toNatClampNeg), .int ((gSx G) (x4 + (2 : Int32)).toNatClampNeg), .int ((gSx G) (x4 + (3 : Int32)).toNatClampNeg), .int ((gSx G) (x4 + (4 : Int32)).toNatClampNeg), .int ((gSx G) (x4 + (5 : Int32)).toNatClampNeg), .ref x3]) C sg_X0_seal q1812 q1813 q76 q1814 rfl (Nat.le_of_ble_eq_true rfl) dL_law_1177 rfl hp306 hp307 (c_X0_seal G l k304 k305 x1 ((gSx G) (x4 + (1 : Int32)).toNatClampNeg) ((gSx G) (x4 + (2 : Int32)).toNatClampNeg) ((gSx G) (x4 + (3 : Int32)).toNatClampNeg) ((gSx G) (x4 + (4 : Int32)).toNatClampNeg) ((gSx G) (x4 + (5 : Int32)).toNatClampNeg) x3 h _ hst hw) (k_I (fun r302 h303 hw => ?_))
        refine r_istore (L' := [(5, .int r302), (0, .ref (gSb G)), (1, .ref x1), (2, .ref x2), (3, .ref x3), (4, .int x4)]) C (by decide) rfl dL_law_1180 (r_aload_n C rfl 3 rfl dL_law_1182 (r_aload_n C rfl 1 rfl dL_law_1183 (r_iload C 5 rfl dL_law_1184 (r_iconst (v := (1 : Int32)) C (by decide) dL_law_1186 (r_iadd C dL_law_1187 ?_)))))
        obtain ⟨hi308, hw⟩ := hw
        refine r_scrLd C hi308 dL_law_1188 ?_
        refine r_aload_n C rfl 1 rfl dL_law_1189 (r_iload C 5 rfl dL_law_1190 (r_iconst (v := (2 : Int32)) C (by decide) dL_law_1192 (r_iadd C dL_law_1193 ?_)))
        obtain ⟨hi309, hw⟩ := hw
        refine r_scrLd C hi309 dL_law_1194 ?_
        refine r_aload_n C rfl 1 rfl dL_law_1195 (r_iload C 5 rfl dL_law_1196 (r_iconst (v := (3 : Int32)) C (by decide) dL_law_1198 (r_iadd C dL_law_1199 ?_)))
        obtain ⟨hi310, hw⟩ := hw
        refine r_scrLd C hi310 dL_law_1200 ?_
        refine r_aload_n C rfl 1 rfl dL_law_1201 (r_iload C 5 rfl dL_law_1202 (r_iconst (v := (4 : Int32)) C (by decide) dL_law_1204 (r_iadd C dL_law_1205 ?_)))
        obtain ⟨hi311, hw⟩ := hw
        refine r_scrLd C hi311 dL_law_1206 ?_
        refine r_aload_n C rfl 1 rfl dL_law_1207 (r_iload C 5 rfl dL_law_1208 (r_iconst (v := (5 : Int32)) C (by decide) dL_law_1210 (r_iadd C dL_law_1211 ?_)))
        obtain ⟨hi312, hw⟩ := hw
        refine r_scrLd C hi312 dL_law_1212 ?_
        obtain ⟨hq313, hw⟩ := hw
        refine r_callV (ci := 2) (rest := []) (As := [.int ((gSx G) (x4 + (1 : Int32)).toNatClampNeg), .int ((gSx G) (x4 + (2 : Int32)).toNatClampNeg), .int ((gSx G) (x4 + (3 : Int32)).toNatClampNeg), .int ((gSx G) (x4 + (4 : Int32)).toNatClampNeg), .int ((gSx G) (x4 + (5 : Int32)).toNatClampNeg)]) C sg_X3_seal rfl rfl q2482 q2483 q2484 q90 q2485 rfl (Nat.le_of_ble_eq_true rfl) dL_law_1213 rfl hq313 hp306 hp307 (c_X3_seal G l x2 ((gSx G) (x4 + (1 : Int32)).toNatClampNeg) ((gSx G) (x4 + (2 : Int32)).toNatClampNeg) ((gSx G) (x4 + (3 : Int32)).toNatClampNeg) ((gSx G) (x4 + (4 : Int32)).toNatClampNeg) ((gSx G) (x4 + (5 : Int32)).toNatClampNeg) h303 _ hw) (k_I (fun r314 h315 hw => ?_))
        refine r_istore (L' := [(6, .int r314), (5, .int r302), (0, .ref (gSb G)), (1, .ref x1), (2, .ref x2), (3, .ref x3), (4, .int x4)]) C (by decide) rfl dL_law_1216 (r_aload_n C rfl 4 rfl dL_law_1218 ?_)
        obtain ⟨hq316, hw⟩ := hw
        refine r_callV (ci := 2) (rest := []) (As := []) C sg_X3_thrown rfl rfl q2210 q2211 q2212 q90 q2213 rfl (Nat.le_of_ble_eq_true rfl) dL_law_1219 rfl hq316 hp306 hp307 (c_X3_thrown G l x2 h315 _ hw) (k_I (fun r317 h318 hw => ?_))
        refine r_iload C 1 rfl dL_law_1222 ?_
        refine r_icmp_eq (tgt := 1229) C (by decide) dL_law_1224 (fun hc319 => ?_) (fun hc319 => ?_)
        · have hw := hw.1 hc319
          refine r_iload C 1 rfl dL_law_1229 ?_
          refine r_if_ne (tgt := 1246) C (by decide) dL_law_1231 (fun hc320 => ?_) (fun hc320 => ?_)
          · have hw := hw.1 hc320
            exact r_sub C [2, 3, 4, 5, 6] rfl (b_L_law_1246 C hst LA23 hLA23 _ _ _ _ _ _ _ hp306 hp307 hw)
          · have hw := hw.2 hc320
            refine r_aload_n C rfl 5 rfl dL_law_1234 (r_iconst (v := (0 : Int32)) C (by decide) dL_law_1235 ?_)
            refine r_laload C dL_law_1236 hw (fun v321 hw => ?_)
            refine r_iload C 0 rfl dL_law_1237 (r_i2l C dL_law_1239 (r_lcmp C dL_law_1240 ?_))
            refine r_if_eq (tgt := 1246) C (by decide) dL_law_1241 (fun hc322 => ?_) (fun hc322 => ?_)
            · have hw := hw.1 hc322
              exact r_sub C [2, 3, 4, 5, 6] rfl (b_L_law_1246 C hst LA23 hLA23 _ _ _ _ _ _ _ hp306 hp307 hw)
            · have hw := hw.2 hc322
              refine r_iconst (v := (0 : Int32)) C (by decide) dL_law_1244 ?_
              exact r_zreturn (x := false) C dL_law_1245 hp306 hp307 ⟨_, rfl, hw⟩
        · have hw := hw.2 hc319
          refine r_iconst (v := (0 : Int32)) C (by decide) dL_law_1227 ?_
          exact r_zreturn (x := false) C dL_law_1228 hp306 hp307 ⟨_, rfl, hw⟩
      | 17, _, e9 =>
        have e9 : ((gSx G) x4.toNatClampNeg) &&& (63 : Int32) = (17 : Int32) := e9.trans (by decide)
        have hw := hw.2.2.2.2.2.2.2.2.2.2.2.2.2.2.2.2.2.2.1 e9
        refine r_tableAt (k := (17 : Int32)) (off := 1209) (tgt := 1249) C e9 (by decide) (by decide) (by decide) (by decide) dL_law_40 ?_
        refine r_aload_n C rfl 1 rfl dL_law_1249 (r_aload_n C rfl 0 rfl dL_law_1250 (r_iload C 4 rfl dL_law_1251 (r_iconst (v := (1 : Int32)) C (by decide) dL_law_1253 (r_iadd C dL_law_1254 ?_))))
        obtain ⟨hi323, hw⟩ := hw
        refine r_scrLd C hi323 dL_law_1255 ?_
        refine r_aload_n C rfl 0 rfl dL_law_1256 (r_iload C 4 rfl dL_law_1257 (r_iconst (v := (2 : Int32)) C (by decide) dL_law_1259 (r_iadd C dL_law_1260 ?_)))
        obtain ⟨hi324, hw⟩ := hw
        refine r_scrLd C hi324 dL_law_1261 ?_
        refine r_aload_n C rfl 3 rfl dL_law_1262 ?_
        obtain ⟨k327, k328, hp329, hp330, hw⟩ := hw
        refine r_callSW (rest := []) (As := [.ref x1, .int ((gSx G) (x4 + (1 : Int32)).toNatClampNeg), .int ((gSx G) (x4 + (2 : Int32)).toNatClampNeg), .ref x3]) C sg_X0_show q1825 q1826 q76 q1827 rfl (Nat.le_of_ble_eq_true rfl) dL_law_1263 rfl hp329 hp330 (c_X0_show G l k327 k328 x1 ((gSx G) (x4 + (1 : Int32)).toNatClampNeg) ((gSx G) (x4 + (2 : Int32)).toNatClampNeg) x3 h _ hst hw) (k_I (fun r325 h326 hw => ?_))
        refine r_istore (L' := [(5, .int r325), (0, .ref (gSb G)), (1, .ref x1), (2, .ref x2), (3, .ref x3), (4, .int x4)]) C (by decide) rfl dL_law_1266 (r_aload_n C rfl 3 rfl dL_law_1268 (r_aload_n C rfl 1 rfl dL_law_1269 (r_iload C 5 rfl dL_law_1270 (r_iconst (v := (1 : Int32)) C (by decide) dL_law_1272 (r_iadd C dL_law_1273 ?_)))))
        obtain ⟨hi331, hw⟩ := hw
        refine r_scrLd C hi331 dL_law_1274 ?_
        refine r_aload_n C rfl 1 rfl dL_law_1275 (r_iload C 5 rfl dL_law_1276 (r_iconst (v := (2 : Int32)) C (by decide) dL_law_1278 (r_iadd C dL_law_1279 ?_)))
        obtain ⟨hi332, hw⟩ := hw
        refine r_scrLd C hi332 dL_law_1280 ?_
        obtain ⟨hq333, hw⟩ := hw
        refine r_callV (ci := 2) (rest := []) (As := [.int ((gSx G) (x4 + (1 : Int32)).toNatClampNeg), .int ((gSx G) (x4 + (2 : Int32)).toNatClampNeg)]) C sg_X3_show rfl rfl q2491 q2492 q2493 q90 q2494 rfl (Nat.le_of_ble_eq_true rfl) dL_law_1281 rfl hq333 hp329 hp330 (c_X3_show G l x2 ((gSx G) (x4 + (1 : Int32)).toNatClampNeg) ((gSx G) (x4 + (2 : Int32)).toNatClampNeg) h326 _ hw) (k_I (fun r334 h335 hw => ?_))
        refine r_istore (L' := [(6, .int r334), (5, .int r325), (0, .ref (gSb G)), (1, .ref x1), (2, .ref x2), (3, .ref x3), (4, .int x4)]) C (by decide) rfl dL_law_1284 (r_aload_n C rfl 4 rfl dL_law_1286 ?_)
        obtain ⟨hq336, hw⟩ := hw
        refine r_callV (ci := 2) (rest := []) (As := []) C sg_X3_thrown rfl rfl q2210 q2211 q2212 q90 q2213 rfl (Nat.le_of_ble_eq_true rfl) dL_law_1287 rfl hq336 hp329 hp330 (c_X3_thrown G l x2 h335 _ hw) (k_I (fun r337 h338 hw => ?_))
        refine r_iload C 1 rfl dL_law_1290 ?_
        refine r_icmp_eq (tgt := 1297) C (by decide) dL_law_1292 (fun hc339 => ?_) (fun hc339 => ?_)
        · have hw := hw.1 hc339
          refine r_iload C 1 rfl dL_law_1297 ?_
          refine r_if_ne (tgt := 1314) C (by decide) dL_law_1299 (fun hc340 => ?_) (fun hc340 => ?_)
          · have hw := hw.1 hc340
            exact r_sub C [2, 3, 4, 5, 6] rfl (b_L_law_1314 C hst LA23 hLA23 _ _ _ _ _ _ _ hp329 hp330 hw)
          · have hw := hw.2 hc340
            refine r_aload_n C rfl 5 rfl dL_law_1302 (r_iconst (v := (0 : Int32)) C (by decide) dL_law_1303 ?_)
            refine r_laload C dL_law_1304 hw (fun v341 hw => ?_)
            refine r_iload C 0 rfl dL_law_1305 (r_i2l C dL_law_1307 (r_lcmp C dL_law_1308 ?_))
            refine r_if_eq (tgt := 1314) C (by decide) dL_law_1309 (fun hc342 => ?_) (fun hc342 => ?_)
            · have hw := hw.1 hc342
              exact r_sub C [2, 3, 4, 5, 6] rfl (b_L_law_1314 C hst LA23 hLA23 _ _ _ _ _ _ _ hp329 hp330 hw)
            · have hw := hw.2 hc342
              refine r_iconst (v := (0 : Int32)) C (by decide) dL_law_1312 ?_
              exact r_zreturn (x := false) C dL_law_1313 hp329 hp330 ⟨_, rfl, hw⟩
        · have hw := hw.2 hc339
          refine r_iconst (v := (0 : Int32)) C (by decide) dL_law_1295 ?_
          exact r_zreturn (x := false) C dL_law_1296 hp329 hp330 ⟨_, rfl, hw⟩
      | 18, _, e9 =>
        have e9 : ((gSx G) x4.toNatClampNeg) &&& (63 : Int32) = (18 : Int32) := e9.trans (by decide)
        have hw := hw.2.2.2.2.2.2.2.2.2.2.2.2.2.2.2.2.2.2.2.1 e9
        refine r_tableAt (k := (18 : Int32)) (off := 1277) (tgt := 1317) C e9 (by decide) (by decide) (by decide) (by decide) dL_law_40 ?_
        refine r_aload_n C rfl 1 rfl dL_law_1317 (r_aload_n C rfl 0 rfl dL_law_1318 (r_iload C 4 rfl dL_law_1319 (r_iconst (v := (1 : Int32)) C (by decide) dL_law_1321 (r_iadd C dL_law_1322 ?_))))
        obtain ⟨hi343, hw⟩ := hw
        refine r_scrLd C hi343 dL_law_1323 ?_
        refine r_aload_n C rfl 0 rfl dL_law_1324 (r_iload C 4 rfl dL_law_1325 (r_iconst (v := (2 : Int32)) C (by decide) dL_law_1327 (r_iadd C dL_law_1328 ?_)))
        obtain ⟨hi344, hw⟩ := hw
        refine r_scrLd C hi344 dL_law_1329 ?_
        refine r_aload_n C rfl 3 rfl dL_law_1330 ?_
        obtain ⟨k347, k348, hp349, hp350, hw⟩ := hw
        refine r_callSW (rest := []) (As := [.ref x1, .int ((gSx G) (x4 + (1 : Int32)).toNatClampNeg), .int ((gSx G) (x4 + (2 : Int32)).toNatClampNeg), .ref x3]) C sg_X0_hang q1842 q1843 q76 q1844 rfl (Nat.le_of_ble_eq_true rfl) dL_law_1331 rfl hp349 hp350 (c_X0_hang G l k347 k348 x1 ((gSx G) (x4 + (1 : Int32)).toNatClampNeg) ((gSx G) (x4 + (2 : Int32)).toNatClampNeg) x3 h _ hst hw) (k_I (fun r345 h346 hw => ?_))
        refine r_istore (L' := [(5, .int r345), (0, .ref (gSb G)), (1, .ref x1), (2, .ref x2), (3, .ref x3), (4, .int x4)]) C (by decide) rfl dL_law_1334 (r_aload_n C rfl 3 rfl dL_law_1336 (r_aload_n C rfl 1 rfl dL_law_1337 (r_iload C 5 rfl dL_law_1338 (r_iconst (v := (1 : Int32)) C (by decide) dL_law_1340 (r_iadd C dL_law_1341 ?_)))))
        obtain ⟨hi351, hw⟩ := hw
        refine r_scrLd C hi351 dL_law_1342 ?_
        refine r_aload_n C rfl 1 rfl dL_law_1343 (r_iload C 5 rfl dL_law_1344 (r_iconst (v := (2 : Int32)) C (by decide) dL_law_1346 (r_iadd C dL_law_1347 ?_)))
        obtain ⟨hi352, hw⟩ := hw
        refine r_scrLd C hi352 dL_law_1348 ?_
        obtain ⟨hq353, hw⟩ := hw
        refine r_callV (ci := 2) (rest := []) (As := [.int ((gSx G) (x4 + (1 : Int32)).toNatClampNeg), .int ((gSx G) (x4 + (2 : Int32)).toNatClampNeg)]) C sg_X3_hang rfl rfl q2498 q2499 q2500 q90 q2501 rfl (Nat.le_of_ble_eq_true rfl) dL_law_1349 rfl hq353 hp349 hp350 (c_X3_hang G l x2 ((gSx G) (x4 + (1 : Int32)).toNatClampNeg) ((gSx G) (x4 + (2 : Int32)).toNatClampNeg) h346 _ hw) (k_I (fun r354 h355 hw => ?_))
        refine r_istore (L' := [(6, .int r354), (5, .int r345), (0, .ref (gSb G)), (1, .ref x1), (2, .ref x2), (3, .ref x3), (4, .int x4)]) C (by decide) rfl dL_law_1352 (r_aload_n C rfl 4 rfl dL_law_1354 ?_)
        obtain ⟨hq356, hw⟩ := hw
        refine r_callV (ci := 2) (rest := []) (As := []) C sg_X3_thrown rfl rfl q2210 q2211 q2212 q90 q2213 rfl (Nat.le_of_ble_eq_true rfl) dL_law_1355 rfl hq356 hp349 hp350 (c_X3_thrown G l x2 h355 _ hw) (k_I (fun r357 h358 hw => ?_))
        refine r_iload C 1 rfl dL_law_1358 ?_
        refine r_icmp_eq (tgt := 1365) C (by decide) dL_law_1360 (fun hc359 => ?_) (fun hc359 => ?_)
        · have hw := hw.1 hc359
          refine r_iload C 1 rfl dL_law_1365 ?_
          refine r_if_ne (tgt := 1382) C (by decide) dL_law_1367 (fun hc360 => ?_) (fun hc360 => ?_)
          · have hw := hw.1 hc360
            exact r_sub C [2, 3, 4, 5, 6] rfl (b_L_law_1382 C hst LA23 hLA23 _ _ _ _ _ _ _ hp349 hp350 hw)
          · have hw := hw.2 hc360
            refine r_aload_n C rfl 5 rfl dL_law_1370 (r_iconst (v := (0 : Int32)) C (by decide) dL_law_1371 ?_)
            refine r_laload C dL_law_1372 hw (fun v361 hw => ?_)
            refine r_iload C 0 rfl dL_law_1373 (r_i2l C dL_law_1375 (r_lcmp C dL_law_1376 ?_))
            refine r_if_eq (tgt := 1382) C (by decide) dL_law_1377 (fun hc362 => ?_) (fun hc362 => ?_)
            · have hw := hw.1 hc362
              exact r_sub C [2, 3, 4, 5, 6] rfl (b_L_law_1382 C hst LA23 hLA23 _ _ _ _ _ _ _ hp349 hp350 hw)
            · have hw := hw.2 hc362
              refine r_iconst (v := (0 : Int32)) C (by decide) dL_law_1380 ?_
              exact r_zreturn (x := false) C dL_law_1381 hp349 hp350 ⟨_, rfl, hw⟩
        · have hw := hw.2 hc359
          refine r_iconst (v := (0 : Int32)) C (by decide) dL_law_1363 ?_
          exact r_zreturn (x := false) C dL_law_1364 hp349 hp350 ⟨_, rfl, hw⟩
      | 19, _, e9 =>
        have e9 : ((gSx G) x4.toNatClampNeg) &&& (63 : Int32) = (19 : Int32) := e9.trans (by decide)
        have hw := hw.2.2.2.2.2.2.2.2.2.2.2.2.2.2.2.2.2.2.2.2.1 e9
        refine r_tableAt (k := (19 : Int32)) (off := 1345) (tgt := 1385) C e9 (by decide) (by decide) (by decide) (by decide) dL_law_40 ?_
        refine r_aload_n C rfl 1 rfl dL_law_1385 (r_aload_n C rfl 0 rfl dL_law_1386 (r_iload C 4 rfl dL_law_1387 (r_iconst (v := (1 : Int32)) C (by decide) dL_law_1389 (r_iadd C dL_law_1390 ?_))))
        obtain ⟨hi363, hw⟩ := hw
        refine r_scrLd C hi363 dL_law_1391 ?_
        refine r_aload_n C rfl 3 rfl dL_law_1392 ?_
        obtain ⟨k366, k367, hp368, hp369, hw⟩ := hw
        refine r_callSW (rest := []) (As := [.ref x1, .int ((gSx G) (x4 + (1 : Int32)).toNatClampNeg), .ref x3]) C sg_X0_cut q1849 q1850 q76 q1851 rfl (Nat.le_of_ble_eq_true rfl) dL_law_1393 rfl hp368 hp369 (c_X0_cut G l k366 k367 x1 ((gSx G) (x4 + (1 : Int32)).toNatClampNeg) x3 h _ hst hw) (k_I (fun r364 h365 hw => ?_))
        refine r_istore (L' := [(5, .int r364), (0, .ref (gSb G)), (1, .ref x1), (2, .ref x2), (3, .ref x3), (4, .int x4)]) C (by decide) rfl dL_law_1396 (r_aload_n C rfl 3 rfl dL_law_1398 (r_aload_n C rfl 1 rfl dL_law_1399 (r_iload C 5 rfl dL_law_1400 (r_iconst (v := (1 : Int32)) C (by decide) dL_law_1402 (r_iadd C dL_law_1403 ?_)))))
        obtain ⟨hi370, hw⟩ := hw
        refine r_scrLd C hi370 dL_law_1404 ?_
        obtain ⟨hq371, hw⟩ := hw
        refine r_callV (ci := 2) (rest := []) (As := [.int ((gSx G) (x4 + (1 : Int32)).toNatClampNeg)]) C sg_X3_cut rfl rfl q2502 q2503 q2504 q90 q2505 rfl (Nat.le_of_ble_eq_true rfl) dL_law_1405 rfl hq371 hp368 hp369 (c_X3_cut G l x2 ((gSx G) (x4 + (1 : Int32)).toNatClampNeg) h365 _ hw) (k_I (fun r372 h373 hw => ?_))
        refine r_istore (L' := [(6, .int r372), (5, .int r364), (0, .ref (gSb G)), (1, .ref x1), (2, .ref x2), (3, .ref x3), (4, .int x4)]) C (by decide) rfl dL_law_1408 (r_aload_n C rfl 4 rfl dL_law_1410 ?_)
        obtain ⟨hq374, hw⟩ := hw
        refine r_callV (ci := 2) (rest := []) (As := []) C sg_X3_thrown rfl rfl q2210 q2211 q2212 q90 q2213 rfl (Nat.le_of_ble_eq_true rfl) dL_law_1411 rfl hq374 hp368 hp369 (c_X3_thrown G l x2 h373 _ hw) (k_I (fun r375 h376 hw => ?_))
        refine r_iload C 1 rfl dL_law_1414 ?_
        refine r_icmp_eq (tgt := 1421) C (by decide) dL_law_1416 (fun hc377 => ?_) (fun hc377 => ?_)
        · have hw := hw.1 hc377
          refine r_iload C 1 rfl dL_law_1421 ?_
          refine r_if_ne (tgt := 1438) C (by decide) dL_law_1423 (fun hc378 => ?_) (fun hc378 => ?_)
          · have hw := hw.1 hc378
            exact r_sub C [2, 3, 4, 5, 6] rfl (b_L_law_1438 C hst LA23 hLA23 _ _ _ _ _ _ _ hp368 hp369 hw)
          · have hw := hw.2 hc378
            refine r_aload_n C rfl 5 rfl dL_law_1426 (r_iconst (v := (0 : Int32)) C (by decide) dL_law_1427 ?_)
            refine r_laload C dL_law_1428 hw (fun v379 hw => ?_)
            refine r_iload C 0 rfl dL_law_1429 (r_i2l C dL_law_1431 (r_lcmp C dL_law_1432 ?_))
            refine r_if_eq (tgt := 1438) C (by decide) dL_law_1433 (fun hc380 => ?_) (fun hc380 => ?_)
            · have hw := hw.1 hc380
              exact r_sub C [2, 3, 4, 5, 6] rfl (b_L_law_1438 C hst LA23 hLA23 _ _ _ _ _ _ _ hp368 hp369 hw)
            · have hw := hw.2 hc380
              refine r_iconst (v := (0 : Int32)) C (by decide) dL_law_1436 ?_
              exact r_zreturn (x := false) C dL_law_1437 hp368 hp369 ⟨_, rfl, hw⟩
        · have hw := hw.2 hc377
          refine r_iconst (v := (0 : Int32)) C (by decide) dL_law_1419 ?_
          exact r_zreturn (x := false) C dL_law_1420 hp368 hp369 ⟨_, rfl, hw⟩
      | 20, _, e9 =>
        have e9 : ((gSx G) x4.toNatClampNeg) &&& (63 : Int32) = (20 : Int32) := e9.trans (by decide)
        have hw := hw.2.2.2.2.2.2.2.2.2.2.2.2.2.2.2.2.2.2.2.2.2.1 e9
        refine r_tableAt (k := (20 : Int32)) (off := 1401) (tgt := 1441) C e9 (by decide) (by decide) (by decide) (by decide) dL_law_40 ?_
        refine r_aload_n C rfl 1 rfl dL_law_1441 (r_aload_n C rfl 0 rfl dL_law_1442 (r_iload C 4 rfl dL_law_1443 (r_iconst (v := (1 : Int32)) C (by decide) dL_law_1445 (r_iadd C dL_law_1446 ?_))))
        obtain ⟨hi381, hw⟩ := hw
        refine r_scrLd C hi381 dL_law_1447 ?_
        refine r_aload_n C rfl 0 rfl dL_law_1448 (r_iload C 4 rfl dL_law_1449 (r_iconst (v := (2 : Int32)) C (by decide) dL_law_1451 (r_iadd C dL_law_1452 ?_)))
        obtain ⟨hi382, hw⟩ := hw
        refine r_scrLd C hi382 dL_law_1453 ?_
        refine r_aload_n C rfl 0 rfl dL_law_1454 (r_iload C 4 rfl dL_law_1455 (r_iconst (v := (3 : Int32)) C (by decide) dL_law_1457 (r_iadd C dL_law_1458 ?_)))
        obtain ⟨hi383, hw⟩ := hw
        refine r_scrLd C hi383 dL_law_1459 ?_
        refine r_aload_n C rfl 3 rfl dL_law_1460 ?_
        obtain ⟨k386, k387, hp388, hp389, hw⟩ := hw
        refine r_callSW (rest := []) (As := [.ref x1, .int ((gSx G) (x4 + (1 : Int32)).toNatClampNeg), .int ((gSx G) (x4 + (2 : Int32)).toNatClampNeg), .int ((gSx G) (x4 + (3 : Int32)).toNatClampNeg), .ref x3]) C sg_X0_shelve q1860 q1861 q76 q1862 rfl (Nat.le_of_ble_eq_true rfl) dL_law_1461 rfl hp388 hp389 (c_X0_shelve G l k386 k387 x1 ((gSx G) (x4 + (1 : Int32)).toNatClampNeg) ((gSx G) (x4 + (2 : Int32)).toNatClampNeg) ((gSx G) (x4 + (3 : Int32)).toNatClampNeg) x3 h _ hst hw) (k_I (fun r384 h385 hw => ?_))
        refine r_istore (L' := [(5, .int r384), (0, .ref (gSb G)), (1, .ref x1), (2, .ref x2), (3, .ref x3), (4, .int x4)]) C (by decide) rfl dL_law_1464 (r_aload_n C rfl 3 rfl dL_law_1466 (r_aload_n C rfl 1 rfl dL_law_1467 (r_iload C 5 rfl dL_law_1468 (r_iconst (v := (1 : Int32)) C (by decide) dL_law_1470 (r_iadd C dL_law_1471 ?_)))))
        obtain ⟨hi390, hw⟩ := hw
        refine r_scrLd C hi390 dL_law_1472 ?_
        refine r_aload_n C rfl 1 rfl dL_law_1473 (r_iload C 5 rfl dL_law_1474 (r_iconst (v := (2 : Int32)) C (by decide) dL_law_1476 (r_iadd C dL_law_1477 ?_)))
        obtain ⟨hi391, hw⟩ := hw
        refine r_scrLd C hi391 dL_law_1478 ?_
        refine r_aload_n C rfl 1 rfl dL_law_1479 (r_iload C 5 rfl dL_law_1480 (r_iconst (v := (3 : Int32)) C (by decide) dL_law_1482 (r_iadd C dL_law_1483 ?_)))
        obtain ⟨hi392, hw⟩ := hw
        refine r_scrLd C hi392 dL_law_1484 ?_
        obtain ⟨hq393, hw⟩ := hw
        refine r_callV (ci := 2) (rest := []) (As := [.int ((gSx G) (x4 + (1 : Int32)).toNatClampNeg), .int ((gSx G) (x4 + (2 : Int32)).toNatClampNeg), .int ((gSx G) (x4 + (3 : Int32)).toNatClampNeg)]) C sg_X3_shelve rfl rfl q2509 q2510 q2511 q90 q2512 rfl (Nat.le_of_ble_eq_true rfl) dL_law_1485 rfl hq393 hp388 hp389 (c_X3_shelve G l x2 ((gSx G) (x4 + (1 : Int32)).toNatClampNeg) ((gSx G) (x4 + (2 : Int32)).toNatClampNeg) ((gSx G) (x4 + (3 : Int32)).toNatClampNeg) h385 _ hw) (k_I (fun r394 h395 hw => ?_))
        refine r_istore (L' := [(6, .int r394), (5, .int r384), (0, .ref (gSb G)), (1, .ref x1), (2, .ref x2), (3, .ref x3), (4, .int x4)]) C (by decide) rfl dL_law_1488 (r_aload_n C rfl 4 rfl dL_law_1490 ?_)
        obtain ⟨hq396, hw⟩ := hw
        refine r_callV (ci := 2) (rest := []) (As := []) C sg_X3_thrown rfl rfl q2210 q2211 q2212 q90 q2213 rfl (Nat.le_of_ble_eq_true rfl) dL_law_1491 rfl hq396 hp388 hp389 (c_X3_thrown G l x2 h395 _ hw) (k_I (fun r397 h398 hw => ?_))
        refine r_iload C 1 rfl dL_law_1494 ?_
        refine r_icmp_eq (tgt := 1501) C (by decide) dL_law_1496 (fun hc399 => ?_) (fun hc399 => ?_)
        · have hw := hw.1 hc399
          refine r_iload C 1 rfl dL_law_1501 ?_
          refine r_if_ne (tgt := 1518) C (by decide) dL_law_1503 (fun hc400 => ?_) (fun hc400 => ?_)
          · have hw := hw.1 hc400
            exact r_sub C [2, 3, 4, 5, 6] rfl (b_L_law_1518 C hst LA23 hLA23 _ _ _ _ _ _ _ hp388 hp389 hw)
          · have hw := hw.2 hc400
            refine r_aload_n C rfl 5 rfl dL_law_1506 (r_iconst (v := (0 : Int32)) C (by decide) dL_law_1507 ?_)
            refine r_laload C dL_law_1508 hw (fun v401 hw => ?_)
            refine r_iload C 0 rfl dL_law_1509 (r_i2l C dL_law_1511 (r_lcmp C dL_law_1512 ?_))
            refine r_if_eq (tgt := 1518) C (by decide) dL_law_1513 (fun hc402 => ?_) (fun hc402 => ?_)
            · have hw := hw.1 hc402
              exact r_sub C [2, 3, 4, 5, 6] rfl (b_L_law_1518 C hst LA23 hLA23 _ _ _ _ _ _ _ hp388 hp389 hw)
            · have hw := hw.2 hc402
              refine r_iconst (v := (0 : Int32)) C (by decide) dL_law_1516 ?_
              exact r_zreturn (x := false) C dL_law_1517 hp388 hp389 ⟨_, rfl, hw⟩
        · have hw := hw.2 hc399
          refine r_iconst (v := (0 : Int32)) C (by decide) dL_law_1499 ?_
          exact r_zreturn (x := false) C dL_law_1500 hp388 hp389 ⟨_, rfl, hw⟩
      | 21, _, e9 =>
        have e9 : ((gSx G) x4.toNatClampNeg) &&& (63 : Int32) = (21 : Int32) := e9.trans (by decide)
        have hw := hw.2.2.2.2.2.2.2.2.2.2.2.2.2.2.2.2.2.2.2.2.2.2.1 e9
        refine r_tableAt (k := (21 : Int32)) (off := 1481) (tgt := 1521) C e9 (by decide) (by decide) (by decide) (by decide) dL_law_40 ?_
        refine r_aload_n C rfl 1 rfl dL_law_1521 (r_aload_n C rfl 0 rfl dL_law_1522 (r_iload C 4 rfl dL_law_1523 (r_iconst (v := (1 : Int32)) C (by decide) dL_law_1525 (r_iadd C dL_law_1526 ?_))))
        obtain ⟨hi403, hw⟩ := hw
        refine r_scrLd C hi403 dL_law_1527 ?_
        refine r_aload_n C rfl 3 rfl dL_law_1528 ?_
        obtain ⟨k406, k407, hp408, hp409, hw⟩ := hw
        refine r_callSW (rest := []) (As := [.ref x1, .int ((gSx G) (x4 + (1 : Int32)).toNatClampNeg), .ref x3]) C sg_X0_take q1995 q1996 q76 q1997 rfl (Nat.le_of_ble_eq_true rfl) dL_law_1529 rfl hp408 hp409 (c_X0_take G l k406 k407 x1 ((gSx G) (x4 + (1 : Int32)).toNatClampNeg) x3 h _ hst hw) (k_I (fun r404 h405 hw => ?_))
        refine r_istore (L' := [(5, .int r404), (0, .ref (gSb G)), (1, .ref x1), (2, .ref x2), (3, .ref x3), (4, .int x4)]) C (by decide) rfl dL_law_1532 (r_aload_n C rfl 3 rfl dL_law_1534 (r_aload_n C rfl 1 rfl dL_law_1535 (r_iload C 5 rfl dL_law_1536 (r_iconst (v := (1 : Int32)) C (by decide) dL_law_1538 (r_iadd C dL_law_1539 ?_)))))
        obtain ⟨hi410, hw⟩ := hw
        refine r_scrLd C hi410 dL_law_1540 ?_
        obtain ⟨hq411, hw⟩ := hw
        refine r_callV (ci := 2) (rest := []) (As := [.int ((gSx G) (x4 + (1 : Int32)).toNatClampNeg)]) C sg_X3_take rfl rfl q2525 q2526 q2527 q90 q2528 rfl (Nat.le_of_ble_eq_true rfl) dL_law_1541 rfl hq411 hp408 hp409 (c_X3_take G l x2 ((gSx G) (x4 + (1 : Int32)).toNatClampNeg) h405 _ hw) (k_I (fun r412 h413 hw => ?_))
        refine r_istore (L' := [(6, .int r412), (5, .int r404), (0, .ref (gSb G)), (1, .ref x1), (2, .ref x2), (3, .ref x3), (4, .int x4)]) C (by decide) rfl dL_law_1544 (r_aload_n C rfl 4 rfl dL_law_1546 ?_)
        obtain ⟨hq414, hw⟩ := hw
        refine r_callV (ci := 2) (rest := []) (As := []) C sg_X3_thrown rfl rfl q2210 q2211 q2212 q90 q2213 rfl (Nat.le_of_ble_eq_true rfl) dL_law_1547 rfl hq414 hp408 hp409 (c_X3_thrown G l x2 h413 _ hw) (k_I (fun r415 h416 hw => ?_))
        refine r_iload C 1 rfl dL_law_1550 ?_
        refine r_icmp_eq (tgt := 1557) C (by decide) dL_law_1552 (fun hc417 => ?_) (fun hc417 => ?_)
        · have hw := hw.1 hc417
          refine r_iload C 1 rfl dL_law_1557 ?_
          refine r_if_ne (tgt := 1574) C (by decide) dL_law_1559 (fun hc418 => ?_) (fun hc418 => ?_)
          · have hw := hw.1 hc418
            exact r_sub C [2, 3, 4, 5, 6] rfl (b_L_law_1574 C hst LA23 hLA23 _ _ _ _ _ _ _ hp408 hp409 hw)
          · have hw := hw.2 hc418
            refine r_aload_n C rfl 5 rfl dL_law_1562 (r_iconst (v := (0 : Int32)) C (by decide) dL_law_1563 ?_)
            refine r_laload C dL_law_1564 hw (fun v419 hw => ?_)
            refine r_iload C 0 rfl dL_law_1565 (r_i2l C dL_law_1567 (r_lcmp C dL_law_1568 ?_))
            refine r_if_eq (tgt := 1574) C (by decide) dL_law_1569 (fun hc420 => ?_) (fun hc420 => ?_)
            · have hw := hw.1 hc420
              exact r_sub C [2, 3, 4, 5, 6] rfl (b_L_law_1574 C hst LA23 hLA23 _ _ _ _ _ _ _ hp408 hp409 hw)
            · have hw := hw.2 hc420
              refine r_iconst (v := (0 : Int32)) C (by decide) dL_law_1572 ?_
              exact r_zreturn (x := false) C dL_law_1573 hp408 hp409 ⟨_, rfl, hw⟩
        · have hw := hw.2 hc417
          refine r_iconst (v := (0 : Int32)) C (by decide) dL_law_1555 ?_
          exact r_zreturn (x := false) C dL_law_1556 hp408 hp409 ⟨_, rfl, hw⟩
      | 22, _, e9 =>
        have e9 : ((gSx G) x4.toNatClampNeg) &&& (63 : Int32) = (22 : Int32) := e9.trans (by decide)
        have hw := hw.2.2.2.2.2.2.2.2.2.2.2.2.2.2.2.2.2.2.2.2.2.2.2.1 e9
        refine r_tableAt (k := (22 : Int32)) (off := 1537) (tgt := 1577) C e9 (by decide) (by decide) (by decide) (by decide) dL_law_40 ?_
        refine r_aload_n C rfl 1 rfl dL_law_1577 (r_aload_n C rfl 0 rfl dL_law_1578 (r_iload C 4 rfl dL_law_1579 (r_iconst (v := (1 : Int32)) C (by decide) dL_law_1581 (r_iadd C dL_law_1582 ?_))))
        obtain ⟨hi421, hw⟩ := hw
        refine r_scrLd C hi421 dL_law_1583 ?_
        refine r_aload_n C rfl 3 rfl dL_law_1584 ?_
        obtain ⟨k424, k425, hp426, hp427, hw⟩ := hw
        refine r_callSW (rest := []) (As := [.ref x1, .int ((gSx G) (x4 + (1 : Int32)).toNatClampNeg), .ref x3]) C sg_X0_sort q2003 q2004 q76 q2005 rfl (Nat.le_of_ble_eq_true rfl) dL_law_1585 rfl hp426 hp427 (c_X0_sort G l k424 k425 x1 ((gSx G) (x4 + (1 : Int32)).toNatClampNeg) x3 h _ hst hw) (k_I (fun r422 h423 hw => ?_))
        refine r_istore (L' := [(5, .int r422), (0, .ref (gSb G)), (1, .ref x1), (2, .ref x2), (3, .ref x3), (4, .int x4)]) C (by decide) rfl dL_law_1588 (r_aload_n C rfl 3 rfl dL_law_1590 (r_aload_n C rfl 1 rfl dL_law_1591 (r_iload C 5 rfl dL_law_1592 (r_iconst (v := (1 : Int32)) C (by decide) dL_law_1594 (r_iadd C dL_law_1595 ?_)))))
        obtain ⟨hi428, hw⟩ := hw
        refine r_scrLd C hi428 dL_law_1596 ?_
        obtain ⟨hq429, hw⟩ := hw
        refine r_callV (ci := 2) (rest := []) (As := [.int ((gSx G) (x4 + (1 : Int32)).toNatClampNeg)]) C sg_X3_sort rfl rfl q2529 q2530 q2531 q90 q2532 rfl (Nat.le_of_ble_eq_true rfl) dL_law_1597 rfl hq429 hp426 hp427 (c_X3_sort G l x2 ((gSx G) (x4 + (1 : Int32)).toNatClampNeg) h423 _ hw) (k_I (fun r430 h431 hw => ?_))
        refine r_istore (L' := [(6, .int r430), (5, .int r422), (0, .ref (gSb G)), (1, .ref x1), (2, .ref x2), (3, .ref x3), (4, .int x4)]) C (by decide) rfl dL_law_1600 (r_aload_n C rfl 4 rfl dL_law_1602 ?_)
        obtain ⟨hq432, hw⟩ := hw
        refine r_callV (ci := 2) (rest := []) (As := []) C sg_X3_thrown rfl rfl q2210 q2211 q2212 q90 q2213 rfl (Nat.le_of_ble_eq_true rfl) dL_law_1603 rfl hq432 hp426 hp427 (c_X3_thrown G l x2 h431 _ hw) (k_I (fun r433 h434 hw => ?_))
        refine r_iload C 1 rfl dL_law_1606 ?_
        refine r_icmp_eq (tgt := 1613) C (by decide) dL_law_1608 (fun hc435 => ?_) (fun hc435 => ?_)
        · have hw := hw.1 hc435
          refine r_iload C 1 rfl dL_law_1613 ?_
          refine r_if_ne (tgt := 1630) C (by decide) dL_law_1615 (fun hc436 => ?_) (fun hc436 => ?_)
          · have hw := hw.1 hc436
            exact r_sub C [2, 3, 4, 5, 6] rfl (b_L_law_1630 C hst LA23 hLA23 _ _ _ _ _ _ _ hp426 hp427 hw)
          · have hw := hw.2 hc436
            refine r_aload_n C rfl 5 rfl dL_law_1618 (r_iconst (v := (0 : Int32)) C (by decide) dL_law_1619 ?_)
            refine r_laload C dL_law_1620 hw (fun v437 hw => ?_)
            refine r_iload C 0 rfl dL_law_1621 (r_i2l C dL_law_1623 (r_lcmp C dL_law_1624 ?_))
            refine r_if_eq (tgt := 1630) C (by decide) dL_law_1625 (fun hc438 => ?_) (fun hc438 => ?_)
            · have hw := hw.1 hc438
              exact r_sub C [2, 3, 4, 5, 6] rfl (b_L_law_1630 C hst LA23 hLA23 _ _ _ _ _ _ _ hp426 hp427 hw)
            · have hw := hw.2 hc438
              refine r_iconst (v := (0 : Int32)) C (by decide) dL_law_1628 ?_
              exact r_zreturn (x := false) C dL_law_1629 hp426 hp427 ⟨_, rfl, hw⟩
        · have hw := hw.2 hc435
          refine r_iconst (v := (0 : Int32)) C (by decide) dL_law_1611 ?_
          exact r_zreturn (x := false) C dL_law_1612 hp426 hp427 ⟨_, rfl, hw⟩
      | 23, _, e9 =>
        have e9 : ((gSx G) x4.toNatClampNeg) &&& (63 : Int32) = (23 : Int32) := e9.trans (by decide)
        have hw := hw.2.2.2.2.2.2.2.2.2.2.2.2.2.2.2.2.2.2.2.2.2.2.2.2.1 e9
        refine r_tableAt (k := (23 : Int32)) (off := 1593) (tgt := 1633) C e9 (by decide) (by decide) (by decide) (by decide) dL_law_40 ?_
        refine r_aload_n C rfl 1 rfl dL_law_1633 (r_aload_n C rfl 0 rfl dL_law_1634 (r_iload C 4 rfl dL_law_1635 (r_iconst (v := (1 : Int32)) C (by decide) dL_law_1637 (r_iadd C dL_law_1638 ?_))))
        obtain ⟨hi439, hw⟩ := hw
        refine r_scrLd C hi439 dL_law_1639 ?_
        refine r_aload_n C rfl 0 rfl dL_law_1640 (r_iload C 4 rfl dL_law_1641 (r_iconst (v := (2 : Int32)) C (by decide) dL_law_1643 (r_iadd C dL_law_1644 ?_)))
        obtain ⟨hi440, hw⟩ := hw
        refine r_scrLd C hi440 dL_law_1645 ?_
        refine r_aload_n C rfl 3 rfl dL_law_1646 ?_
        obtain ⟨k443, k444, hp445, hp446, hw⟩ := hw
        refine r_callSW (rest := []) (As := [.ref x1, .int ((gSx G) (x4 + (1 : Int32)).toNatClampNeg), .int ((gSx G) (x4 + (2 : Int32)).toNatClampNeg), .ref x3]) C sg_X0_set q2029 q2030 q76 q2031 rfl (Nat.le_of_ble_eq_true rfl) dL_law_1647 rfl hp445 hp446 (c_X0_set G l k443 k444 x1 ((gSx G) (x4 + (1 : Int32)).toNatClampNeg) ((gSx G) (x4 + (2 : Int32)).toNatClampNeg) x3 h _ hst hw) (k_I (fun r441 h442 hw => ?_))
        refine r_istore (L' := [(5, .int r441), (0, .ref (gSb G)), (1, .ref x1), (2, .ref x2), (3, .ref x3), (4, .int x4)]) C (by decide) rfl dL_law_1650 (r_aload_n C rfl 3 rfl dL_law_1652 (r_aload_n C rfl 1 rfl dL_law_1653 (r_iload C 5 rfl dL_law_1654 (r_iconst (v := (1 : Int32)) C (by decide) dL_law_1656 (r_iadd C dL_law_1657 ?_)))))
        obtain ⟨hi447, hw⟩ := hw
        refine r_scrLd C hi447 dL_law_1658 ?_
        refine r_aload_n C rfl 1 rfl dL_law_1659 (r_iload C 5 rfl dL_law_1660 (r_iconst (v := (2 : Int32)) C (by decide) dL_law_1662 (r_iadd C dL_law_1663 ?_)))
        obtain ⟨hi448, hw⟩ := hw
        refine r_scrLd C hi448 dL_law_1664 ?_
        obtain ⟨hq449, hw⟩ := hw
        refine r_callV (ci := 2) (rest := []) (As := [.int ((gSx G) (x4 + (1 : Int32)).toNatClampNeg), .int ((gSx G) (x4 + (2 : Int32)).toNatClampNeg)]) C sg_X3_set rfl rfl q2541 q2542 q2543 q90 q2544 rfl (Nat.le_of_ble_eq_true rfl) dL_law_1665 rfl hq449 hp445 hp446 (c_X3_set G l x2 ((gSx G) (x4 + (1 : Int32)).toNatClampNeg) ((gSx G) (x4 + (2 : Int32)).toNatClampNeg) h442 _ hw) (k_I (fun r450 h451 hw => ?_))
        refine r_istore (L' := [(6, .int r450), (5, .int r441), (0, .ref (gSb G)), (1, .ref x1), (2, .ref x2), (3, .ref x3), (4, .int x4)]) C (by decide) rfl dL_law_1668 (r_aload_n C rfl 4 rfl dL_law_1670 ?_)
        obtain ⟨hq452, hw⟩ := hw
        refine r_callV (ci := 2) (rest := []) (As := []) C sg_X3_thrown rfl rfl q2210 q2211 q2212 q90 q2213 rfl (Nat.le_of_ble_eq_true rfl) dL_law_1671 rfl hq452 hp445 hp446 (c_X3_thrown G l x2 h451 _ hw) (k_I (fun r453 h454 hw => ?_))
        refine r_iload C 1 rfl dL_law_1674 ?_
        refine r_icmp_eq (tgt := 1681) C (by decide) dL_law_1676 (fun hc455 => ?_) (fun hc455 => ?_)
        · have hw := hw.1 hc455
          refine r_iload C 1 rfl dL_law_1681 ?_
          refine r_if_ne (tgt := 1698) C (by decide) dL_law_1683 (fun hc456 => ?_) (fun hc456 => ?_)
          · have hw := hw.1 hc456
            exact r_sub C [2, 3, 4, 5, 6] rfl (b_L_law_1698 C hst LA23 hLA23 _ _ _ _ _ _ _ hp445 hp446 hw)
          · have hw := hw.2 hc456
            refine r_aload_n C rfl 5 rfl dL_law_1686 (r_iconst (v := (0 : Int32)) C (by decide) dL_law_1687 ?_)
            refine r_laload C dL_law_1688 hw (fun v457 hw => ?_)
            refine r_iload C 0 rfl dL_law_1689 (r_i2l C dL_law_1691 (r_lcmp C dL_law_1692 ?_))
            refine r_if_eq (tgt := 1698) C (by decide) dL_law_1693 (fun hc458 => ?_) (fun hc458 => ?_)
            · have hw := hw.1 hc458
              exact r_sub C [2, 3, 4, 5, 6] rfl (b_L_law_1698 C hst LA23 hLA23 _ _ _ _ _ _ _ hp445 hp446 hw)
            · have hw := hw.2 hc458
              refine r_iconst (v := (0 : Int32)) C (by decide) dL_law_1696 ?_
              exact r_zreturn (x := false) C dL_law_1697 hp445 hp446 ⟨_, rfl, hw⟩
        · have hw := hw.2 hc455
          refine r_iconst (v := (0 : Int32)) C (by decide) dL_law_1679 ?_
          exact r_zreturn (x := false) C dL_law_1680 hp445 hp446 ⟨_, rfl, hw⟩
      | 24, _, e9 =>
        have e9 : ((gSx G) x4.toNatClampNeg) &&& (63 : Int32) = (24 : Int32) := e9.trans (by decide)
        have hw := hw.2.2.2.2.2.2.2.2.2.2.2.2.2.2.2.2.2.2.2.2.2.2.2.2.2.1 e9
        refine r_tableAt (k := (24 : Int32)) (off := 1661) (tgt := 1701) C e9 (by decide) (by decide) (by decide) (by decide) dL_law_40 ?_
        refine r_aload_n C rfl 1 rfl dL_law_1701 (r_aload_n C rfl 3 rfl dL_law_1702 ?_)
        obtain ⟨k461, k462, hp463, hp464, hw⟩ := hw
        refine r_callSW (rest := []) (As := [.ref x1, .ref x3]) C sg_X0_undo q2039 q2040 q76 q2041 rfl (Nat.le_of_ble_eq_true rfl) dL_law_1703 rfl hp463 hp464 (c_X0_undo G l k461 k462 x1 x3 h _ hst hw) (k_I (fun r459 h460 hw => ?_))
        refine r_istore (L' := [(5, .int r459), (0, .ref (gSb G)), (1, .ref x1), (2, .ref x2), (3, .ref x3), (4, .int x4)]) C (by decide) rfl dL_law_1706 (r_aload_n C rfl 3 rfl dL_law_1708 ?_)
        obtain ⟨hq465, hw⟩ := hw
        refine r_callV (ci := 2) (rest := []) (As := []) C sg_X3_undo rfl rfl q2548 q2549 q2550 q90 q2551 rfl (Nat.le_of_ble_eq_true rfl) dL_law_1709 rfl hq465 hp463 hp464 (c_X3_undo G l x2 h460 _ hw) (k_I (fun r466 h467 hw => ?_))
        refine r_istore (L' := [(6, .int r466), (5, .int r459), (0, .ref (gSb G)), (1, .ref x1), (2, .ref x2), (3, .ref x3), (4, .int x4)]) C (by decide) rfl dL_law_1712 (r_aload_n C rfl 4 rfl dL_law_1714 ?_)
        obtain ⟨hq468, hw⟩ := hw
        refine r_callV (ci := 2) (rest := []) (As := []) C sg_X3_thrown rfl rfl q2210 q2211 q2212 q90 q2213 rfl (Nat.le_of_ble_eq_true rfl) dL_law_1715 rfl hq468 hp463 hp464 (c_X3_thrown G l x2 h467 _ hw) (k_I (fun r469 h470 hw => ?_))
        refine r_iload C 1 rfl dL_law_1718 ?_
        refine r_icmp_eq (tgt := 1725) C (by decide) dL_law_1720 (fun hc471 => ?_) (fun hc471 => ?_)
        · have hw := hw.1 hc471
          refine r_iload C 1 rfl dL_law_1725 ?_
          refine r_if_ne (tgt := 1742) C (by decide) dL_law_1727 (fun hc472 => ?_) (fun hc472 => ?_)
          · have hw := hw.1 hc472
            exact r_sub C [2, 3, 4, 5, 6] rfl (b_L_law_1742 C hst LA23 hLA23 _ _ _ _ _ _ _ hp463 hp464 hw)
          · have hw := hw.2 hc472
            refine r_aload_n C rfl 5 rfl dL_law_1730 (r_iconst (v := (0 : Int32)) C (by decide) dL_law_1731 ?_)
            refine r_laload C dL_law_1732 hw (fun v473 hw => ?_)
            refine r_iload C 0 rfl dL_law_1733 (r_i2l C dL_law_1735 (r_lcmp C dL_law_1736 ?_))
            refine r_if_eq (tgt := 1742) C (by decide) dL_law_1737 (fun hc474 => ?_) (fun hc474 => ?_)
            · have hw := hw.1 hc474
              exact r_sub C [2, 3, 4, 5, 6] rfl (b_L_law_1742 C hst LA23 hLA23 _ _ _ _ _ _ _ hp463 hp464 hw)
            · have hw := hw.2 hc474
              refine r_iconst (v := (0 : Int32)) C (by decide) dL_law_1740 ?_
              exact r_zreturn (x := false) C dL_law_1741 hp463 hp464 ⟨_, rfl, hw⟩
        · have hw := hw.2 hc471
          refine r_iconst (v := (0 : Int32)) C (by decide) dL_law_1723 ?_
          exact r_zreturn (x := false) C dL_law_1724 hp463 hp464 ⟨_, rfl, hw⟩
      | 25, _, e9 =>
        have e9 : ((gSx G) x4.toNatClampNeg) &&& (63 : Int32) = (25 : Int32) := e9.trans (by decide)
        have hw := hw.2.2.2.2.2.2.2.2.2.2.2.2.2.2.2.2.2.2.2.2.2.2.2.2.2.2.1 e9
        refine r_tableAt (k := (25 : Int32)) (off := 1705) (tgt := 1745) C e9 (by decide) (by decide) (by decide) (by decide) dL_law_40 ?_
        refine r_aload_n C rfl 1 rfl dL_law_1745 (r_aload_n C rfl 0 rfl dL_law_1746 (r_iload C 4 rfl dL_law_1747 (r_iconst (v := (1 : Int32)) C (by decide) dL_law_1749 (r_iadd C dL_law_1750 ?_))))
        obtain ⟨hi475, hw⟩ := hw
        refine r_scrLd C hi475 dL_law_1751 ?_
        refine r_aload_n C rfl 0 rfl dL_law_1752 (r_iload C 4 rfl dL_law_1753 (r_iconst (v := (2 : Int32)) C (by decide) dL_law_1755 (r_iadd C dL_law_1756 ?_)))
        obtain ⟨hi476, hw⟩ := hw
        refine r_scrLd C hi476 dL_law_1757 ?_
        refine r_aload_n C rfl 3 rfl dL_law_1758 ?_
        obtain ⟨k479, k480, hp481, hp482, hw⟩ := hw
        refine r_callSW (rest := []) (As := [.ref x1, .int ((gSx G) (x4 + (1 : Int32)).toNatClampNeg), .int ((gSx G) (x4 + (2 : Int32)).toNatClampNeg), .ref x3]) C sg_X0_older q2057 q2058 q76 q2059 rfl (Nat.le_of_ble_eq_true rfl) dL_law_1759 rfl hp481 hp482 (c_X0_older G l k479 k480 x1 ((gSx G) (x4 + (1 : Int32)).toNatClampNeg) ((gSx G) (x4 + (2 : Int32)).toNatClampNeg) x3 h _ hst hw) (k_I (fun r477 h478 hw => ?_))
        refine r_istore (L' := [(5, .int r477), (0, .ref (gSb G)), (1, .ref x1), (2, .ref x2), (3, .ref x3), (4, .int x4)]) C (by decide) rfl dL_law_1762 (r_aload_n C rfl 3 rfl dL_law_1764 (r_aload_n C rfl 1 rfl dL_law_1765 (r_iload C 5 rfl dL_law_1766 (r_iconst (v := (1 : Int32)) C (by decide) dL_law_1768 (r_iadd C dL_law_1769 ?_)))))
        obtain ⟨hi483, hw⟩ := hw
        refine r_scrLd C hi483 dL_law_1770 ?_
        refine r_aload_n C rfl 1 rfl dL_law_1771 (r_iload C 5 rfl dL_law_1772 (r_iconst (v := (2 : Int32)) C (by decide) dL_law_1774 (r_iadd C dL_law_1775 ?_)))
        obtain ⟨hi484, hw⟩ := hw
        refine r_scrLd C hi484 dL_law_1776 ?_
        obtain ⟨hq485, hw⟩ := hw
        refine r_callV (ci := 2) (rest := []) (As := [.int ((gSx G) (x4 + (1 : Int32)).toNatClampNeg), .int ((gSx G) (x4 + (2 : Int32)).toNatClampNeg)]) C sg_X3_older rfl rfl q2552 q2553 q2554 q90 q2555 rfl (Nat.le_of_ble_eq_true rfl) dL_law_1777 rfl hq485 hp481 hp482 (c_X3_older G l x2 ((gSx G) (x4 + (1 : Int32)).toNatClampNeg) ((gSx G) (x4 + (2 : Int32)).toNatClampNeg) h478 _ hw) (k_I (fun r486 h487 hw => ?_))
        refine r_istore (L' := [(6, .int r486), (5, .int r477), (0, .ref (gSb G)), (1, .ref x1), (2, .ref x2), (3, .ref x3), (4, .int x4)]) C (by decide) rfl dL_law_1780 (r_aload_n C rfl 4 rfl dL_law_1782 ?_)
        obtain ⟨hq488, hw⟩ := hw
        refine r_callV (ci := 2) (rest := []) (As := []) C sg_X3_thrown rfl rfl q2210 q2211 q2212 q90 q2213 rfl (Nat.le_of_ble_eq_true rfl) dL_law_1783 rfl hq488 hp481 hp482 (c_X3_thrown G l x2 h487 _ hw) (k_I (fun r489 h490 hw => ?_))
        refine r_iload C 1 rfl dL_law_1786 ?_
        refine r_icmp_eq (tgt := 1793) C (by decide) dL_law_1788 (fun hc491 => ?_) (fun hc491 => ?_)
        · have hw := hw.1 hc491
          refine r_iload C 1 rfl dL_law_1793 ?_
          refine r_if_ne (tgt := 1810) C (by decide) dL_law_1795 (fun hc492 => ?_) (fun hc492 => ?_)
          · have hw := hw.1 hc492
            exact r_sub C [2, 3, 4, 5, 6] rfl (b_L_law_1810 C hst LA23 hLA23 _ _ _ _ _ _ _ hp481 hp482 hw)
          · have hw := hw.2 hc492
            refine r_aload_n C rfl 5 rfl dL_law_1798 (r_iconst (v := (0 : Int32)) C (by decide) dL_law_1799 ?_)
            refine r_laload C dL_law_1800 hw (fun v493 hw => ?_)
            refine r_iload C 0 rfl dL_law_1801 (r_i2l C dL_law_1803 (r_lcmp C dL_law_1804 ?_))
            refine r_if_eq (tgt := 1810) C (by decide) dL_law_1805 (fun hc494 => ?_) (fun hc494 => ?_)
            · have hw := hw.1 hc494
              exact r_sub C [2, 3, 4, 5, 6] rfl (b_L_law_1810 C hst LA23 hLA23 _ _ _ _ _ _ _ hp481 hp482 hw)
            · have hw := hw.2 hc494
              refine r_iconst (v := (0 : Int32)) C (by decide) dL_law_1808 ?_
              exact r_zreturn (x := false) C dL_law_1809 hp481 hp482 ⟨_, rfl, hw⟩
        · have hw := hw.2 hc491
          refine r_iconst (v := (0 : Int32)) C (by decide) dL_law_1791 ?_
          exact r_zreturn (x := false) C dL_law_1792 hp481 hp482 ⟨_, rfl, hw⟩
      | 26, _, e9 =>
        have e9 : ((gSx G) x4.toNatClampNeg) &&& (63 : Int32) = (26 : Int32) := e9.trans (by decide)
        have hw := hw.2.2.2.2.2.2.2.2.2.2.2.2.2.2.2.2.2.2.2.2.2.2.2.2.2.2.2.1 e9
        refine r_tableAt (k := (26 : Int32)) (off := 1773) (tgt := 1813) C e9 (by decide) (by decide) (by decide) (by decide) dL_law_40 ?_
        refine r_aload_n C rfl 1 rfl dL_law_1813 (r_aload_n C rfl 0 rfl dL_law_1814 (r_iload C 4 rfl dL_law_1815 (r_iconst (v := (1 : Int32)) C (by decide) dL_law_1817 (r_iadd C dL_law_1818 ?_))))
        obtain ⟨hi495, hw⟩ := hw
        refine r_scrLd C hi495 dL_law_1819 ?_
        refine r_aload_n C rfl 3 rfl dL_law_1820 ?_
        obtain ⟨k498, k499, hp500, hp501, hw⟩ := hw
        refine r_callSW (rest := []) (As := [.ref x1, .int ((gSx G) (x4 + (1 : Int32)).toNatClampNeg), .ref x3]) C sg_X0_decides q2064 q2065 q76 q2066 rfl (Nat.le_of_ble_eq_true rfl) dL_law_1821 rfl hp500 hp501 (c_X0_decides G l k498 k499 x1 ((gSx G) (x4 + (1 : Int32)).toNatClampNeg) x3 h _ hst hw) (k_I (fun r496 h497 hw => ?_))
        refine r_istore (L' := [(5, .int r496), (0, .ref (gSb G)), (1, .ref x1), (2, .ref x2), (3, .ref x3), (4, .int x4)]) C (by decide) rfl dL_law_1824 (r_aload_n C rfl 3 rfl dL_law_1826 (r_aload_n C rfl 1 rfl dL_law_1827 (r_iload C 5 rfl dL_law_1828 (r_iconst (v := (1 : Int32)) C (by decide) dL_law_1830 (r_iadd C dL_law_1831 ?_)))))
        obtain ⟨hi502, hw⟩ := hw
        refine r_scrLd C hi502 dL_law_1832 ?_
        obtain ⟨hq503, hw⟩ := hw
        refine r_callV (ci := 2) (rest := []) (As := [.int ((gSx G) (x4 + (1 : Int32)).toNatClampNeg)]) C sg_X3_decides rfl rfl q2556 q2557 q2558 q90 q2559 rfl (Nat.le_of_ble_eq_true rfl) dL_law_1833 rfl hq503 hp500 hp501 (c_X3_decides G l x2 ((gSx G) (x4 + (1 : Int32)).toNatClampNeg) h497 _ hw) (k_I (fun r504 h505 hw => ?_))
        refine r_istore (L' := [(6, .int r504), (5, .int r496), (0, .ref (gSb G)), (1, .ref x1), (2, .ref x2), (3, .ref x3), (4, .int x4)]) C (by decide) rfl dL_law_1836 (r_aload_n C rfl 4 rfl dL_law_1838 ?_)
        obtain ⟨hq506, hw⟩ := hw
        refine r_callV (ci := 2) (rest := []) (As := []) C sg_X3_thrown rfl rfl q2210 q2211 q2212 q90 q2213 rfl (Nat.le_of_ble_eq_true rfl) dL_law_1839 rfl hq506 hp500 hp501 (c_X3_thrown G l x2 h505 _ hw) (k_I (fun r507 h508 hw => ?_))
        refine r_iload C 1 rfl dL_law_1842 ?_
        refine r_icmp_eq (tgt := 1849) C (by decide) dL_law_1844 (fun hc509 => ?_) (fun hc509 => ?_)
        · have hw := hw.1 hc509
          refine r_iload C 1 rfl dL_law_1849 ?_
          refine r_if_ne (tgt := 1866) C (by decide) dL_law_1851 (fun hc510 => ?_) (fun hc510 => ?_)
          · have hw := hw.1 hc510
            exact r_sub C [2, 3, 4, 5, 6] rfl (b_L_law_1866 C hst LA23 hLA23 _ _ _ _ _ _ _ hp500 hp501 hw)
          · have hw := hw.2 hc510
            refine r_aload_n C rfl 5 rfl dL_law_1854 (r_iconst (v := (0 : Int32)) C (by decide) dL_law_1855 ?_)
            refine r_laload C dL_law_1856 hw (fun v511 hw => ?_)
            refine r_iload C 0 rfl dL_law_1857 (r_i2l C dL_law_1859 (r_lcmp C dL_law_1860 ?_))
            refine r_if_eq (tgt := 1866) C (by decide) dL_law_1861 (fun hc512 => ?_) (fun hc512 => ?_)
            · have hw := hw.1 hc512
              exact r_sub C [2, 3, 4, 5, 6] rfl (b_L_law_1866 C hst LA23 hLA23 _ _ _ _ _ _ _ hp500 hp501 hw)
            · have hw := hw.2 hc512
              refine r_iconst (v := (0 : Int32)) C (by decide) dL_law_1864 ?_
              exact r_zreturn (x := false) C dL_law_1865 hp500 hp501 ⟨_, rfl, hw⟩
        · have hw := hw.2 hc509
          refine r_iconst (v := (0 : Int32)) C (by decide) dL_law_1847 ?_
          exact r_zreturn (x := false) C dL_law_1848 hp500 hp501 ⟨_, rfl, hw⟩
      | 27, _, e9 =>
        have e9 : ((gSx G) x4.toNatClampNeg) &&& (63 : Int32) = (27 : Int32) := e9.trans (by decide)
        have hw := hw.2.2.2.2.2.2.2.2.2.2.2.2.2.2.2.2.2.2.2.2.2.2.2.2.2.2.2.2.1 e9
        refine r_tableAt (k := (27 : Int32)) (off := 1829) (tgt := 1869) C e9 (by decide) (by decide) (by decide) (by decide) dL_law_40 ?_
        refine r_aload_n C rfl 1 rfl dL_law_1869 (r_aload_n C rfl 0 rfl dL_law_1870 (r_iload C 4 rfl dL_law_1871 (r_iconst (v := (1 : Int32)) C (by decide) dL_law_1873 (r_iadd C dL_law_1874 ?_))))
        obtain ⟨hi513, hw⟩ := hw
        refine r_scrLd C hi513 dL_law_1875 ?_
        refine r_aload_n C rfl 0 rfl dL_law_1876 (r_iload C 4 rfl dL_law_1877 (r_iconst (v := (2 : Int32)) C (by decide) dL_law_1879 (r_iadd C dL_law_1880 ?_)))
        obtain ⟨hi514, hw⟩ := hw
        refine r_scrLd C hi514 dL_law_1881 ?_
        refine r_aload_n C rfl 3 rfl dL_law_1882 ?_
        obtain ⟨k517, k518, hp519, hp520, hw⟩ := hw
        refine r_callSW (rest := []) (As := [.ref x1, .int ((gSx G) (x4 + (1 : Int32)).toNatClampNeg), .int ((gSx G) (x4 + (2 : Int32)).toNatClampNeg), .ref x3]) C sg_X0_ifCracked q2076 q2077 q76 q2078 rfl (Nat.le_of_ble_eq_true rfl) dL_law_1883 rfl hp519 hp520 (c_X0_ifCracked G l k517 k518 x1 ((gSx G) (x4 + (1 : Int32)).toNatClampNeg) ((gSx G) (x4 + (2 : Int32)).toNatClampNeg) x3 h _ hst hw) (k_I (fun r515 h516 hw => ?_))
        refine r_istore (L' := [(5, .int r515), (0, .ref (gSb G)), (1, .ref x1), (2, .ref x2), (3, .ref x3), (4, .int x4)]) C (by decide) rfl dL_law_1886 (r_aload_n C rfl 3 rfl dL_law_1888 (r_aload_n C rfl 1 rfl dL_law_1889 (r_iload C 5 rfl dL_law_1890 (r_iconst (v := (1 : Int32)) C (by decide) dL_law_1892 (r_iadd C dL_law_1893 ?_)))))
        obtain ⟨hi521, hw⟩ := hw
        refine r_scrLd C hi521 dL_law_1894 ?_
        refine r_aload_n C rfl 1 rfl dL_law_1895 (r_iload C 5 rfl dL_law_1896 (r_iconst (v := (2 : Int32)) C (by decide) dL_law_1898 (r_iadd C dL_law_1899 ?_)))
        obtain ⟨hi522, hw⟩ := hw
        refine r_scrLd C hi522 dL_law_1900 ?_
        obtain ⟨hq523, hw⟩ := hw
        refine r_callV (ci := 2) (rest := []) (As := [.int ((gSx G) (x4 + (1 : Int32)).toNatClampNeg), .int ((gSx G) (x4 + (2 : Int32)).toNatClampNeg)]) C sg_X3_ifCracked rfl rfl q2560 q2561 q2562 q90 q2563 rfl (Nat.le_of_ble_eq_true rfl) dL_law_1901 rfl hq523 hp519 hp520 (c_X3_ifCracked G l x2 ((gSx G) (x4 + (1 : Int32)).toNatClampNeg) ((gSx G) (x4 + (2 : Int32)).toNatClampNeg) h516 _ hw) (k_I (fun r524 h525 hw => ?_))
        refine r_istore (L' := [(6, .int r524), (5, .int r515), (0, .ref (gSb G)), (1, .ref x1), (2, .ref x2), (3, .ref x3), (4, .int x4)]) C (by decide) rfl dL_law_1904 (r_aload_n C rfl 4 rfl dL_law_1906 ?_)
        obtain ⟨hq526, hw⟩ := hw
        refine r_callV (ci := 2) (rest := []) (As := []) C sg_X3_thrown rfl rfl q2210 q2211 q2212 q90 q2213 rfl (Nat.le_of_ble_eq_true rfl) dL_law_1907 rfl hq526 hp519 hp520 (c_X3_thrown G l x2 h525 _ hw) (k_I (fun r527 h528 hw => ?_))
        refine r_iload C 1 rfl dL_law_1910 ?_
        refine r_icmp_eq (tgt := 1917) C (by decide) dL_law_1912 (fun hc529 => ?_) (fun hc529 => ?_)
        · have hw := hw.1 hc529
          refine r_iload C 1 rfl dL_law_1917 ?_
          refine r_if_ne (tgt := 1934) C (by decide) dL_law_1919 (fun hc530 => ?_) (fun hc530 => ?_)
          · have hw := hw.1 hc530
            exact r_sub C [2, 3, 4, 5, 6] rfl (b_L_law_1934 C hst LA23 hLA23 _ _ _ _ _ _ _ hp519 hp520 hw)
          · have hw := hw.2 hc530
            refine r_aload_n C rfl 5 rfl dL_law_1922 (r_iconst (v := (0 : Int32)) C (by decide) dL_law_1923 ?_)
            refine r_laload C dL_law_1924 hw (fun v531 hw => ?_)
            refine r_iload C 0 rfl dL_law_1925 (r_i2l C dL_law_1927 (r_lcmp C dL_law_1928 ?_))
            refine r_if_eq (tgt := 1934) C (by decide) dL_law_1929 (fun hc532 => ?_) (fun hc532 => ?_)
            · have hw := hw.1 hc532
              exact r_sub C [2, 3, 4, 5, 6] rfl (b_L_law_1934 C hst LA23 hLA23 _ _ _ _ _ _ _ hp519 hp520 hw)
            · have hw := hw.2 hc532
              refine r_iconst (v := (0 : Int32)) C (by decide) dL_law_1932 ?_
              exact r_zreturn (x := false) C dL_law_1933 hp519 hp520 ⟨_, rfl, hw⟩
        · have hw := hw.2 hc529
          refine r_iconst (v := (0 : Int32)) C (by decide) dL_law_1915 ?_
          exact r_zreturn (x := false) C dL_law_1916 hp519 hp520 ⟨_, rfl, hw⟩
      | 28, _, e9 =>
        have e9 : ((gSx G) x4.toNatClampNeg) &&& (63 : Int32) = (28 : Int32) := e9.trans (by decide)
        have hw := hw.2.2.2.2.2.2.2.2.2.2.2.2.2.2.2.2.2.2.2.2.2.2.2.2.2.2.2.2.2.1 e9
        refine r_tableAt (k := (28 : Int32)) (off := 1897) (tgt := 1937) C e9 (by decide) (by decide) (by decide) (by decide) dL_law_40 ?_
        refine r_aload_n C rfl 1 rfl dL_law_1937 (r_aload_n C rfl 0 rfl dL_law_1938 (r_iload C 4 rfl dL_law_1939 (r_iconst (v := (1 : Int32)) C (by decide) dL_law_1941 (r_iadd C dL_law_1942 ?_))))
        obtain ⟨hi533, hw⟩ := hw
        refine r_scrLd C hi533 dL_law_1943 ?_
        refine r_aload_n C rfl 0 rfl dL_law_1944 (r_iload C 4 rfl dL_law_1945 (r_iconst (v := (2 : Int32)) C (by decide) dL_law_1947 (r_iadd C dL_law_1948 ?_)))
        obtain ⟨hi534, hw⟩ := hw
        refine r_scrLd C hi534 dL_law_1949 ?_
        refine r_aload_n C rfl 3 rfl dL_law_1950 ?_
        obtain ⟨k537, k538, hp539, hp540, hw⟩ := hw
        refine r_callSW (rest := []) (As := [.ref x1, .int ((gSx G) (x4 + (1 : Int32)).toNatClampNeg), .int ((gSx G) (x4 + (2 : Int32)).toNatClampNeg), .ref x3]) C sg_X0_ifHung q2083 q2084 q76 q2085 rfl (Nat.le_of_ble_eq_true rfl) dL_law_1951 rfl hp539 hp540 (c_X0_ifHung G l k537 k538 x1 ((gSx G) (x4 + (1 : Int32)).toNatClampNeg) ((gSx G) (x4 + (2 : Int32)).toNatClampNeg) x3 h _ hst hw) (k_I (fun r535 h536 hw => ?_))
        refine r_istore (L' := [(5, .int r535), (0, .ref (gSb G)), (1, .ref x1), (2, .ref x2), (3, .ref x3), (4, .int x4)]) C (by decide) rfl dL_law_1954 (r_aload_n C rfl 3 rfl dL_law_1956 (r_aload_n C rfl 1 rfl dL_law_1957 (r_iload C 5 rfl dL_law_1958 (r_iconst (v := (1 : Int32)) C (by decide) dL_law_1960 (r_iadd C dL_law_1961 ?_)))))
        obtain ⟨hi541, hw⟩ := hw
        refine r_scrLd C hi541 dL_law_1962 ?_
        refine r_aload_n C rfl 1 rfl dL_law_1963 (r_iload C 5 rfl dL_law_1964 (r_iconst (v := (2 : Int32)) C (by decide) dL_law_1966 (r_iadd C dL_law_1967 ?_)))
        obtain ⟨hi542, hw⟩ := hw
        refine r_scrLd C hi542 dL_law_1968 ?_
        obtain ⟨hq543, hw⟩ := hw
        refine r_callV (ci := 2) (rest := []) (As := [.int ((gSx G) (x4 + (1 : Int32)).toNatClampNeg), .int ((gSx G) (x4 + (2 : Int32)).toNatClampNeg)]) C sg_X3_ifHung rfl rfl q2564 q2565 q2566 q90 q2567 rfl (Nat.le_of_ble_eq_true rfl) dL_law_1969 rfl hq543 hp539 hp540 (c_X3_ifHung G l x2 ((gSx G) (x4 + (1 : Int32)).toNatClampNeg) ((gSx G) (x4 + (2 : Int32)).toNatClampNeg) h536 _ hw) (k_I (fun r544 h545 hw => ?_))
        refine r_istore (L' := [(6, .int r544), (5, .int r535), (0, .ref (gSb G)), (1, .ref x1), (2, .ref x2), (3, .ref x3), (4, .int x4)]) C (by decide) rfl dL_law_1972 (r_aload_n C rfl 4 rfl dL_law_1974 ?_)
        obtain ⟨hq546, hw⟩ := hw
        refine r_callV (ci := 2) (rest := []) (As := []) C sg_X3_thrown rfl rfl q2210 q2211 q2212 q90 q2213 rfl (Nat.le_of_ble_eq_true rfl) dL_law_1975 rfl hq546 hp539 hp540 (c_X3_thrown G l x2 h545 _ hw) (k_I (fun r547 h548 hw => ?_))
        refine r_iload C 1 rfl dL_law_1978 ?_
        refine r_icmp_eq (tgt := 1985) C (by decide) dL_law_1980 (fun hc549 => ?_) (fun hc549 => ?_)
        · have hw := hw.1 hc549
          refine r_iload C 1 rfl dL_law_1985 ?_
          refine r_if_ne (tgt := 2002) C (by decide) dL_law_1987 (fun hc550 => ?_) (fun hc550 => ?_)
          · have hw := hw.1 hc550
            exact r_sub C [2, 3, 4, 5, 6] rfl (b_L_law_2002 C hst LA23 hLA23 _ _ _ _ _ _ _ hp539 hp540 hw)
          · have hw := hw.2 hc550
            refine r_aload_n C rfl 5 rfl dL_law_1990 (r_iconst (v := (0 : Int32)) C (by decide) dL_law_1991 ?_)
            refine r_laload C dL_law_1992 hw (fun v551 hw => ?_)
            refine r_iload C 0 rfl dL_law_1993 (r_i2l C dL_law_1995 (r_lcmp C dL_law_1996 ?_))
            refine r_if_eq (tgt := 2002) C (by decide) dL_law_1997 (fun hc552 => ?_) (fun hc552 => ?_)
            · have hw := hw.1 hc552
              exact r_sub C [2, 3, 4, 5, 6] rfl (b_L_law_2002 C hst LA23 hLA23 _ _ _ _ _ _ _ hp539 hp540 hw)
            · have hw := hw.2 hc552
              refine r_iconst (v := (0 : Int32)) C (by decide) dL_law_2000 ?_
              exact r_zreturn (x := false) C dL_law_2001 hp539 hp540 ⟨_, rfl, hw⟩
        · have hw := hw.2 hc549
          refine r_iconst (v := (0 : Int32)) C (by decide) dL_law_1983 ?_
          exact r_zreturn (x := false) C dL_law_1984 hp539 hp540 ⟨_, rfl, hw⟩
      | 29, _, e9 =>
        have e9 : ((gSx G) x4.toNatClampNeg) &&& (63 : Int32) = (29 : Int32) := e9.trans (by decide)
        have hw := hw.2.2.2.2.2.2.2.2.2.2.2.2.2.2.2.2.2.2.2.2.2.2.2.2.2.2.2.2.2.2.1 e9
        refine r_tableAt (k := (29 : Int32)) (off := 1965) (tgt := 2005) C e9 (by decide) (by decide) (by decide) (by decide) dL_law_40 ?_
        refine r_aload_n C rfl 1 rfl dL_law_2005 (r_aload_n C rfl 0 rfl dL_law_2006 (r_iload C 4 rfl dL_law_2007 (r_iconst (v := (1 : Int32)) C (by decide) dL_law_2009 (r_iadd C dL_law_2010 ?_))))
        obtain ⟨hi553, hw⟩ := hw
        refine r_scrLd C hi553 dL_law_2011 ?_
        refine r_aload_n C rfl 3 rfl dL_law_2012 ?_
        obtain ⟨k556, k557, hp558, hp559, hw⟩ := hw
        refine r_callSW (rest := []) (As := [.ref x1, .int ((gSx G) (x4 + (1 : Int32)).toNatClampNeg), .ref x3]) C sg_X0_inYear q2090 q2091 q76 q2092 rfl (Nat.le_of_ble_eq_true rfl) dL_law_2013 rfl hp558 hp559 (c_X0_inYear G l k556 k557 x1 ((gSx G) (x4 + (1 : Int32)).toNatClampNeg) x3 h _ hst hw) (k_I (fun r554 h555 hw => ?_))
        refine r_istore (L' := [(5, .int r554), (0, .ref (gSb G)), (1, .ref x1), (2, .ref x2), (3, .ref x3), (4, .int x4)]) C (by decide) rfl dL_law_2016 (r_aload_n C rfl 3 rfl dL_law_2018 (r_aload_n C rfl 1 rfl dL_law_2019 (r_iload C 5 rfl dL_law_2020 (r_iconst (v := (1 : Int32)) C (by decide) dL_law_2022 (r_iadd C dL_law_2023 ?_)))))
        obtain ⟨hi560, hw⟩ := hw
        refine r_scrLd C hi560 dL_law_2024 ?_
        obtain ⟨hq561, hw⟩ := hw
        refine r_callV (ci := 2) (rest := []) (As := [.int ((gSx G) (x4 + (1 : Int32)).toNatClampNeg)]) C sg_X3_inYear rfl rfl q2568 q2569 q2570 q90 q2571 rfl (Nat.le_of_ble_eq_true rfl) dL_law_2025 rfl hq561 hp558 hp559 (c_X3_inYear G l x2 ((gSx G) (x4 + (1 : Int32)).toNatClampNeg) h555 _ hw) (k_I (fun r562 h563 hw => ?_))
        refine r_istore (L' := [(6, .int r562), (5, .int r554), (0, .ref (gSb G)), (1, .ref x1), (2, .ref x2), (3, .ref x3), (4, .int x4)]) C (by decide) rfl dL_law_2028 (r_aload_n C rfl 4 rfl dL_law_2030 ?_)
        obtain ⟨hq564, hw⟩ := hw
        refine r_callV (ci := 2) (rest := []) (As := []) C sg_X3_thrown rfl rfl q2210 q2211 q2212 q90 q2213 rfl (Nat.le_of_ble_eq_true rfl) dL_law_2031 rfl hq564 hp558 hp559 (c_X3_thrown G l x2 h563 _ hw) (k_I (fun r565 h566 hw => ?_))
        refine r_iload C 1 rfl dL_law_2034 ?_
        refine r_icmp_eq (tgt := 2041) C (by decide) dL_law_2036 (fun hc567 => ?_) (fun hc567 => ?_)
        · have hw := hw.1 hc567
          refine r_iload C 1 rfl dL_law_2041 ?_
          refine r_if_ne (tgt := 2058) C (by decide) dL_law_2043 (fun hc568 => ?_) (fun hc568 => ?_)
          · have hw := hw.1 hc568
            exact r_sub C [2, 3, 4, 5, 6] rfl (b_L_law_2058 C hst LA23 hLA23 _ _ _ _ _ _ _ hp558 hp559 hw)
          · have hw := hw.2 hc568
            refine r_aload_n C rfl 5 rfl dL_law_2046 (r_iconst (v := (0 : Int32)) C (by decide) dL_law_2047 ?_)
            refine r_laload C dL_law_2048 hw (fun v569 hw => ?_)
            refine r_iload C 0 rfl dL_law_2049 (r_i2l C dL_law_2051 (r_lcmp C dL_law_2052 ?_))
            refine r_if_eq (tgt := 2058) C (by decide) dL_law_2053 (fun hc570 => ?_) (fun hc570 => ?_)
            · have hw := hw.1 hc570
              exact r_sub C [2, 3, 4, 5, 6] rfl (b_L_law_2058 C hst LA23 hLA23 _ _ _ _ _ _ _ hp558 hp559 hw)
            · have hw := hw.2 hc570
              refine r_iconst (v := (0 : Int32)) C (by decide) dL_law_2056 ?_
              exact r_zreturn (x := false) C dL_law_2057 hp558 hp559 ⟨_, rfl, hw⟩
        · have hw := hw.2 hc567
          refine r_iconst (v := (0 : Int32)) C (by decide) dL_law_2039 ?_
          exact r_zreturn (x := false) C dL_law_2040 hp558 hp559 ⟨_, rfl, hw⟩
      | 30, _, e9 =>
        have e9 : ((gSx G) x4.toNatClampNeg) &&& (63 : Int32) = (30 : Int32) := e9.trans (by decide)
        have hw := hw.2.2.2.2.2.2.2.2.2.2.2.2.2.2.2.2.2.2.2.2.2.2.2.2.2.2.2.2.2.2.2.1 e9
        refine r_tableAt (k := (30 : Int32)) (off := 2021) (tgt := 2061) C e9 (by decide) (by decide) (by decide) (by decide) dL_law_40 ?_
        refine r_aload_n C rfl 1 rfl dL_law_2061 (r_aload_n C rfl 0 rfl dL_law_2062 (r_iload C 4 rfl dL_law_2063 (r_iconst (v := (1 : Int32)) C (by decide) dL_law_2065 (r_iadd C dL_law_2066 ?_))))
        obtain ⟨hi571, hw⟩ := hw
        refine r_scrLd C hi571 dL_law_2067 ?_
        refine r_aload_n C rfl 0 rfl dL_law_2068 (r_iload C 4 rfl dL_law_2069 (r_iconst (v := (2 : Int32)) C (by decide) dL_law_2071 (r_iadd C dL_law_2072 ?_)))
        obtain ⟨hi572, hw⟩ := hw
        refine r_scrLd C hi572 dL_law_2073 ?_
        refine r_aload_n C rfl 3 rfl dL_law_2074 ?_
        obtain ⟨k575, k576, hp577, hp578, hw⟩ := hw
        refine r_callSW (rest := []) (As := [.ref x1, .int ((gSx G) (x4 + (1 : Int32)).toNatClampNeg), .int ((gSx G) (x4 + (2 : Int32)).toNatClampNeg), .ref x3]) C sg_X0_leastBubbles q2097 q2098 q76 q2099 rfl (Nat.le_of_ble_eq_true rfl) dL_law_2075 rfl hp577 hp578 (c_X0_leastBubbles G l k575 k576 x1 ((gSx G) (x4 + (1 : Int32)).toNatClampNeg) ((gSx G) (x4 + (2 : Int32)).toNatClampNeg) x3 h _ hst hw) (k_I (fun r573 h574 hw => ?_))
        refine r_istore (L' := [(5, .int r573), (0, .ref (gSb G)), (1, .ref x1), (2, .ref x2), (3, .ref x3), (4, .int x4)]) C (by decide) rfl dL_law_2078 (r_aload_n C rfl 3 rfl dL_law_2080 (r_aload_n C rfl 1 rfl dL_law_2081 (r_iload C 5 rfl dL_law_2082 (r_iconst (v := (1 : Int32)) C (by decide) dL_law_2084 (r_iadd C dL_law_2085 ?_)))))
        obtain ⟨hi579, hw⟩ := hw
        refine r_scrLd C hi579 dL_law_2086 ?_
        refine r_aload_n C rfl 1 rfl dL_law_2087 (r_iload C 5 rfl dL_law_2088 (r_iconst (v := (2 : Int32)) C (by decide) dL_law_2090 (r_iadd C dL_law_2091 ?_)))
        obtain ⟨hi580, hw⟩ := hw
        refine r_scrLd C hi580 dL_law_2092 ?_
        obtain ⟨hq581, hw⟩ := hw
        refine r_callV (ci := 2) (rest := []) (As := [.int ((gSx G) (x4 + (1 : Int32)).toNatClampNeg), .int ((gSx G) (x4 + (2 : Int32)).toNatClampNeg)]) C sg_X3_leastBubbles rfl rfl q2572 q2573 q2574 q90 q2575 rfl (Nat.le_of_ble_eq_true rfl) dL_law_2093 rfl hq581 hp577 hp578 (c_X3_leastBubbles G l x2 ((gSx G) (x4 + (1 : Int32)).toNatClampNeg) ((gSx G) (x4 + (2 : Int32)).toNatClampNeg) h574 _ hw) (k_I (fun r582 h583 hw => ?_))
        refine r_istore (L' := [(6, .int r582), (5, .int r573), (0, .ref (gSb G)), (1, .ref x1), (2, .ref x2), (3, .ref x3), (4, .int x4)]) C (by decide) rfl dL_law_2096 (r_aload_n C rfl 4 rfl dL_law_2098 ?_)
        obtain ⟨hq584, hw⟩ := hw
        refine r_callV (ci := 2) (rest := []) (As := []) C sg_X3_thrown rfl rfl q2210 q2211 q2212 q90 q2213 rfl (Nat.le_of_ble_eq_true rfl) dL_law_2099 rfl hq584 hp577 hp578 (c_X3_thrown G l x2 h583 _ hw) (k_I (fun r585 h586 hw => ?_))
        refine r_iload C 1 rfl dL_law_2102 ?_
        refine r_icmp_eq (tgt := 2109) C (by decide) dL_law_2104 (fun hc587 => ?_) (fun hc587 => ?_)
        · have hw := hw.1 hc587
          refine r_iload C 1 rfl dL_law_2109 ?_
          refine r_if_ne (tgt := 2126) C (by decide) dL_law_2111 (fun hc588 => ?_) (fun hc588 => ?_)
          · have hw := hw.1 hc588
            exact r_sub C [2, 3, 4, 5, 6] rfl (b_L_law_2126 C hst LA23 hLA23 _ _ _ _ _ _ _ hp577 hp578 hw)
          · have hw := hw.2 hc588
            refine r_aload_n C rfl 5 rfl dL_law_2114 (r_iconst (v := (0 : Int32)) C (by decide) dL_law_2115 ?_)
            refine r_laload C dL_law_2116 hw (fun v589 hw => ?_)
            refine r_iload C 0 rfl dL_law_2117 (r_i2l C dL_law_2119 (r_lcmp C dL_law_2120 ?_))
            refine r_if_eq (tgt := 2126) C (by decide) dL_law_2121 (fun hc590 => ?_) (fun hc590 => ?_)
            · have hw := hw.1 hc590
              exact r_sub C [2, 3, 4, 5, 6] rfl (b_L_law_2126 C hst LA23 hLA23 _ _ _ _ _ _ _ hp577 hp578 hw)
            · have hw := hw.2 hc590
              refine r_iconst (v := (0 : Int32)) C (by decide) dL_law_2124 ?_
              exact r_zreturn (x := false) C dL_law_2125 hp577 hp578 ⟨_, rfl, hw⟩
        · have hw := hw.2 hc587
          refine r_iconst (v := (0 : Int32)) C (by decide) dL_law_2107 ?_
          exact r_zreturn (x := false) C dL_law_2108 hp577 hp578 ⟨_, rfl, hw⟩
      | 31, _, e9 =>
        have e9 : ((gSx G) x4.toNatClampNeg) &&& (63 : Int32) = (31 : Int32) := e9.trans (by decide)
        have hw := hw.2.2.2.2.2.2.2.2.2.2.2.2.2.2.2.2.2.2.2.2.2.2.2.2.2.2.2.2.2.2.2.2.1 e9
        refine r_tableAt (k := (31 : Int32)) (off := 2089) (tgt := 2129) C e9 (by decide) (by decide) (by decide) (by decide) dL_law_40 ?_
        refine r_aload_n C rfl 1 rfl dL_law_2129 (r_aload_n C rfl 0 rfl dL_law_2130 (r_iload C 4 rfl dL_law_2131 (r_iconst (v := (1 : Int32)) C (by decide) dL_law_2133 (r_iadd C dL_law_2134 ?_))))
        obtain ⟨hi591, hw⟩ := hw
        refine r_scrLd C hi591 dL_law_2135 ?_
        refine r_aload_n C rfl 0 rfl dL_law_2136 (r_iload C 4 rfl dL_law_2137 (r_iconst (v := (2 : Int32)) C (by decide) dL_law_2139 (r_iadd C dL_law_2140 ?_)))
        obtain ⟨hi592, hw⟩ := hw
        refine r_scrLd C hi592 dL_law_2141 ?_
        refine r_i2l C dL_law_2142 (r_bipush (v := (32 : Int32)) C (by decide) dL_law_2143 (r_lshl C dL_law_2145 (r_aload_n C rfl 0 rfl dL_law_2146 (r_iload C 4 rfl dL_law_2147 (r_iconst (v := (3 : Int32)) C (by decide) dL_law_2149 ?_)))))
        refine r_iadd C dL_law_2150 ?_
        obtain ⟨hi593, hw⟩ := hw
        refine r_scrLd C hi593 dL_law_2151 ?_
        refine r_i2l C dL_law_2152 (r_ldc2 (v := (4294967295 : Int64)) C q2637 dL_law_2153 (r_land C dL_law_2156 (r_lor C dL_law_2157 (r_aload_n C rfl 3 rfl dL_law_2158 ?_))))
        obtain ⟨k596, k597, hp598, hp599, hw⟩ := hw
        refine r_callSW (rest := []) (As := [.ref x1, .int ((gSx G) (x4 + (1 : Int32)).toNatClampNeg), .long (((((gSx G) (x4 + (2 : Int32)).toNatClampNeg).toInt64) <<< ((32 : Int32).toInt64 &&& 63)) ||| ((((gSx G) (x4 + (3 : Int32)).toNatClampNeg).toInt64) &&& (4294967295 : Int64))), .ref x3]) C sg_X0_runScript q2104 q2105 q76 q2106 rfl (Nat.le_of_ble_eq_true rfl) dL_law_2159 rfl hp598 hp599 (c_X0_runScript G l k596 k597 x1 ((gSx G) (x4 + (1 : Int32)).toNatClampNeg) (((((gSx G) (x4 + (2 : Int32)).toNatClampNeg).toInt64) <<< ((32 : Int32).toInt64 &&& 63)) ||| ((((gSx G) (x4 + (3 : Int32)).toNatClampNeg).toInt64) &&& (4294967295 : Int64))) x3 h _ hst hw) (k_I (fun r594 h595 hw => ?_))
        refine r_istore (L' := [(5, .int r594), (0, .ref (gSb G)), (1, .ref x1), (2, .ref x2), (3, .ref x3), (4, .int x4)]) C (by decide) rfl dL_law_2162 (r_aload_n C rfl 3 rfl dL_law_2164 (r_aload_n C rfl 1 rfl dL_law_2165 (r_iload C 5 rfl dL_law_2166 (r_iconst (v := (1 : Int32)) C (by decide) dL_law_2168 (r_iadd C dL_law_2169 ?_)))))
        obtain ⟨hi600, hw⟩ := hw
        refine r_scrLd C hi600 dL_law_2170 ?_
        refine r_aload_n C rfl 1 rfl dL_law_2171 (r_iload C 5 rfl dL_law_2172 (r_iconst (v := (2 : Int32)) C (by decide) dL_law_2174 (r_iadd C dL_law_2175 ?_)))
        obtain ⟨hi601, hw⟩ := hw
        refine r_scrLd C hi601 dL_law_2176 ?_
        refine r_i2l C dL_law_2177 (r_bipush (v := (32 : Int32)) C (by decide) dL_law_2178 (r_lshl C dL_law_2180 (r_aload_n C rfl 1 rfl dL_law_2181 (r_iload C 5 rfl dL_law_2182 (r_iconst (v := (3 : Int32)) C (by decide) dL_law_2184 ?_)))))
        refine r_iadd C dL_law_2185 ?_
        obtain ⟨hi602, hw⟩ := hw
        refine r_scrLd C hi602 dL_law_2186 ?_
        refine r_i2l C dL_law_2187 (r_ldc2 (v := (4294967295 : Int64)) C q2637 dL_law_2188 (r_land C dL_law_2191 (r_lor C dL_law_2192 ?_)))
        obtain ⟨hq603, hw⟩ := hw
        refine r_callV (ci := 2) (rest := []) (As := [.int ((gSx G) (x4 + (1 : Int32)).toNatClampNeg), .long (((((gSx G) (x4 + (2 : Int32)).toNatClampNeg).toInt64) <<< ((32 : Int32).toInt64 &&& 63)) ||| ((((gSx G) (x4 + (3 : Int32)).toNatClampNeg).toInt64) &&& (4294967295 : Int64)))]) C sg_X3_runScript rfl rfl q2576 q2577 q2578 q90 q2579 rfl (Nat.le_of_ble_eq_true rfl) dL_law_2193 rfl hq603 hp598 hp599 (c_X3_runScript G l x2 ((gSx G) (x4 + (1 : Int32)).toNatClampNeg) (((((gSx G) (x4 + (2 : Int32)).toNatClampNeg).toInt64) <<< ((32 : Int32).toInt64 &&& 63)) ||| ((((gSx G) (x4 + (3 : Int32)).toNatClampNeg).toInt64) &&& (4294967295 : Int64))) h595 _ hw) (k_I (fun r604 h605 hw => ?_))
        refine r_istore (L' := [(6, .int r604), (5, .int r594), (0, .ref (gSb G)), (1, .ref x1), (2, .ref x2), (3, .ref x3), (4, .int x4)]) C (by decide) rfl dL_law_2196 (r_aload_n C rfl 4 rfl dL_law_2198 ?_)
        obtain ⟨hq606, hw⟩ := hw
        refine r_callV (ci := 2) (rest := []) (As := []) C sg_X3_thrown rfl rfl q2210 q2211 q2212 q90 q2213 rfl (Nat.le_of_ble_eq_true rfl) dL_law_2199 rfl hq606 hp598 hp599 (c_X3_thrown G l x2 h605 _ hw) (k_I (fun r607 h608 hw => ?_))
        refine r_iload C 1 rfl dL_law_2202 ?_
        refine r_icmp_eq (tgt := 2209) C (by decide) dL_law_2204 (fun hc609 => ?_) (fun hc609 => ?_)
        · have hw := hw.1 hc609
          refine r_iload C 1 rfl dL_law_2209 ?_
          refine r_if_ne (tgt := 2226) C (by decide) dL_law_2211 (fun hc610 => ?_) (fun hc610 => ?_)
          · have hw := hw.1 hc610
            exact r_sub C [2, 3, 4, 5, 6] rfl (b_L_law_2226 C hst LA23 hLA23 _ _ _ _ _ _ _ hp598 hp599 hw)
          · have hw := hw.2 hc610
            refine r_aload_n C rfl 5 rfl dL_law_2214 (r_iconst (v := (0 : Int32)) C (by decide) dL_law_2215 ?_)
            refine r_laload C dL_law_2216 hw (fun v611 hw => ?_)
            refine r_iload C 0 rfl dL_law_2217 (r_i2l C dL_law_2219 (r_lcmp C dL_law_2220 ?_))
            refine r_if_eq (tgt := 2226) C (by decide) dL_law_2221 (fun hc612 => ?_) (fun hc612 => ?_)
            · have hw := hw.1 hc612
              exact r_sub C [2, 3, 4, 5, 6] rfl (b_L_law_2226 C hst LA23 hLA23 _ _ _ _ _ _ _ hp598 hp599 hw)
            · have hw := hw.2 hc612
              refine r_iconst (v := (0 : Int32)) C (by decide) dL_law_2224 ?_
              exact r_zreturn (x := false) C dL_law_2225 hp598 hp599 ⟨_, rfl, hw⟩
        · have hw := hw.2 hc609
          refine r_iconst (v := (0 : Int32)) C (by decide) dL_law_2207 ?_
          exact r_zreturn (x := false) C dL_law_2208 hp598 hp599 ⟨_, rfl, hw⟩
      | 32, _, e9 =>
        have e9 : ((gSx G) x4.toNatClampNeg) &&& (63 : Int32) = (32 : Int32) := e9.trans (by decide)
        have hw := hw.2.2.2.2.2.2.2.2.2.2.2.2.2.2.2.2.2.2.2.2.2.2.2.2.2.2.2.2.2.2.2.2.2.1 e9
        refine r_tableAt (k := (32 : Int32)) (off := 2189) (tgt := 2229) C e9 (by decide) (by decide) (by decide) (by decide) dL_law_40 ?_
        refine r_aload_n C rfl 1 rfl dL_law_2229 (r_aload_n C rfl 0 rfl dL_law_2230 (r_iload C 4 rfl dL_law_2231 (r_iconst (v := (1 : Int32)) C (by decide) dL_law_2233 (r_iadd C dL_law_2234 ?_))))
        obtain ⟨hi613, hw⟩ := hw
        refine r_scrLd C hi613 dL_law_2235 ?_
        refine r_i2l C dL_law_2236 (r_bipush (v := (32 : Int32)) C (by decide) dL_law_2237 (r_lshl C dL_law_2239 (r_aload_n C rfl 0 rfl dL_law_2240 (r_iload C 4 rfl dL_law_2241 (r_iconst (v := (2 : Int32)) C (by decide) dL_law_2243 ?_)))))
        refine r_iadd C dL_law_2244 ?_
        obtain ⟨hi614, hw⟩ := hw
        refine r_scrLd C hi614 dL_law_2245 ?_
        refine r_i2l C dL_law_2246 (r_ldc2 (v := (4294967295 : Int64)) C q2637 dL_law_2247 (r_land C dL_law_2250 (r_lor C dL_law_2251 (r_aload_n C rfl 0 rfl dL_law_2252 (r_iload C 4 rfl dL_law_2253 ?_)))))
        refine r_iconst (v := (3 : Int32)) C (by decide) dL_law_2255 (r_iadd C dL_law_2256 ?_)
        obtain ⟨hi615, hw⟩ := hw
        refine r_scrLd C hi615 dL_law_2257 ?_
        refine r_aload_n C rfl 3 rfl dL_law_2258 ?_
        obtain ⟨k618, k619, hp620, hp621, hw⟩ := hw
        refine r_callSW (rest := []) (As := [.ref x1, .long (((((gSx G) (x4 + (1 : Int32)).toNatClampNeg).toInt64) <<< ((32 : Int32).toInt64 &&& 63)) ||| ((((gSx G) (x4 + (2 : Int32)).toNatClampNeg).toInt64) &&& (4294967295 : Int64))), .int ((gSx G) (x4 + (3 : Int32)).toNatClampNeg), .ref x3]) C sg_X0_simulate q2116 q2117 q76 q2118 rfl (Nat.le_of_ble_eq_true rfl) dL_law_2259 rfl hp620 hp621 (c_X0_simulate G l k618 k619 x1 (((((gSx G) (x4 + (1 : Int32)).toNatClampNeg).toInt64) <<< ((32 : Int32).toInt64 &&& 63)) ||| ((((gSx G) (x4 + (2 : Int32)).toNatClampNeg).toInt64) &&& (4294967295 : Int64))) ((gSx G) (x4 + (3 : Int32)).toNatClampNeg) x3 h _ hst hw) (k_I (fun r616 h617 hw => ?_))
        refine r_istore (L' := [(5, .int r616), (0, .ref (gSb G)), (1, .ref x1), (2, .ref x2), (3, .ref x3), (4, .int x4)]) C (by decide) rfl dL_law_2262 (r_aload_n C rfl 3 rfl dL_law_2264 (r_aload_n C rfl 1 rfl dL_law_2265 (r_iload C 5 rfl dL_law_2266 (r_iconst (v := (1 : Int32)) C (by decide) dL_law_2268 (r_iadd C dL_law_2269 ?_)))))
        obtain ⟨hi622, hw⟩ := hw
        refine r_scrLd C hi622 dL_law_2270 ?_
        refine r_i2l C dL_law_2271 (r_bipush (v := (32 : Int32)) C (by decide) dL_law_2272 (r_lshl C dL_law_2274 (r_aload_n C rfl 1 rfl dL_law_2275 (r_iload C 5 rfl dL_law_2276 (r_iconst (v := (2 : Int32)) C (by decide) dL_law_2278 ?_)))))
        refine r_iadd C dL_law_2279 ?_
        obtain ⟨hi623, hw⟩ := hw
        refine r_scrLd C hi623 dL_law_2280 ?_
        refine r_i2l C dL_law_2281 (r_ldc2 (v := (4294967295 : Int64)) C q2637 dL_law_2282 (r_land C dL_law_2285 (r_lor C dL_law_2286 (r_aload_n C rfl 1 rfl dL_law_2287 (r_iload C 5 rfl dL_law_2288 ?_)))))
        refine r_iconst (v := (3 : Int32)) C (by decide) dL_law_2290 (r_iadd C dL_law_2291 ?_)
        obtain ⟨hi624, hw⟩ := hw
        refine r_scrLd C hi624 dL_law_2292 ?_
        obtain ⟨hq625, hw⟩ := hw
        refine r_callV (ci := 2) (rest := []) (As := [.long (((((gSx G) (x4 + (1 : Int32)).toNatClampNeg).toInt64) <<< ((32 : Int32).toInt64 &&& 63)) ||| ((((gSx G) (x4 + (2 : Int32)).toNatClampNeg).toInt64) &&& (4294967295 : Int64))), .int ((gSx G) (x4 + (3 : Int32)).toNatClampNeg)]) C sg_X3_simulate rfl rfl q2618 q2619 q2620 q90 q2621 rfl (Nat.le_of_ble_eq_true rfl) dL_law_2293 rfl hq625 hp620 hp621 (c_X3_simulate G l x2 (((((gSx G) (x4 + (1 : Int32)).toNatClampNeg).toInt64) <<< ((32 : Int32).toInt64 &&& 63)) ||| ((((gSx G) (x4 + (2 : Int32)).toNatClampNeg).toInt64) &&& (4294967295 : Int64))) ((gSx G) (x4 + (3 : Int32)).toNatClampNeg) h617 _ hw) (k_I (fun r626 h627 hw => ?_))
        refine r_istore (L' := [(6, .int r626), (5, .int r616), (0, .ref (gSb G)), (1, .ref x1), (2, .ref x2), (3, .ref x3), (4, .int x4)]) C (by decide) rfl dL_law_2296 (r_aload_n C rfl 4 rfl dL_law_2298 ?_)
        obtain ⟨hq628, hw⟩ := hw
        refine r_callV (ci := 2) (rest := []) (As := []) C sg_X3_thrown rfl rfl q2210 q2211 q2212 q90 q2213 rfl (Nat.le_of_ble_eq_true rfl) dL_law_2299 rfl hq628 hp620 hp621 (c_X3_thrown G l x2 h627 _ hw) (k_I (fun r629 h630 hw => ?_))
        refine r_iload C 1 rfl dL_law_2302 ?_
        refine r_icmp_eq (tgt := 2309) C (by decide) dL_law_2304 (fun hc631 => ?_) (fun hc631 => ?_)
        · have hw := hw.1 hc631
          refine r_iload C 1 rfl dL_law_2309 ?_
          refine r_if_ne (tgt := 2326) C (by decide) dL_law_2311 (fun hc632 => ?_) (fun hc632 => ?_)
          · have hw := hw.1 hc632
            exact r_sub C [2, 3, 4, 5, 6] rfl (b_L_law_2326 C hst LA23 hLA23 _ _ _ _ _ _ _ hp620 hp621 hw)
          · have hw := hw.2 hc632
            refine r_aload_n C rfl 5 rfl dL_law_2314 (r_iconst (v := (0 : Int32)) C (by decide) dL_law_2315 ?_)
            refine r_laload C dL_law_2316 hw (fun v633 hw => ?_)
            refine r_iload C 0 rfl dL_law_2317 (r_i2l C dL_law_2319 (r_lcmp C dL_law_2320 ?_))
            refine r_if_eq (tgt := 2326) C (by decide) dL_law_2321 (fun hc634 => ?_) (fun hc634 => ?_)
            · have hw := hw.1 hc634
              exact r_sub C [2, 3, 4, 5, 6] rfl (b_L_law_2326 C hst LA23 hLA23 _ _ _ _ _ _ _ hp620 hp621 hw)
            · have hw := hw.2 hc634
              refine r_iconst (v := (0 : Int32)) C (by decide) dL_law_2324 ?_
              exact r_zreturn (x := false) C dL_law_2325 hp620 hp621 ⟨_, rfl, hw⟩
        · have hw := hw.2 hc631
          refine r_iconst (v := (0 : Int32)) C (by decide) dL_law_2307 ?_
          exact r_zreturn (x := false) C dL_law_2308 hp620 hp621 ⟨_, rfl, hw⟩
      | 33, _, e9 =>
        have e9 : ((gSx G) x4.toNatClampNeg) &&& (63 : Int32) = (33 : Int32) := e9.trans (by decide)
        have hw := hw.2.2.2.2.2.2.2.2.2.2.2.2.2.2.2.2.2.2.2.2.2.2.2.2.2.2.2.2.2.2.2.2.2.2.1 e9
        refine r_tableAt (k := (33 : Int32)) (off := 2289) (tgt := 2329) C e9 (by decide) (by decide) (by decide) (by decide) dL_law_40 ?_
        refine r_aload_n C rfl 1 rfl dL_law_2329 (r_aload_n C rfl 0 rfl dL_law_2330 (r_iload C 4 rfl dL_law_2331 (r_iconst (v := (1 : Int32)) C (by decide) dL_law_2333 (r_iadd C dL_law_2334 ?_))))
        obtain ⟨hi635, hw⟩ := hw
        refine r_scrLd C hi635 dL_law_2335 ?_
        refine r_aload_n C rfl 3 rfl dL_law_2336 ?_
        obtain ⟨k638, k639, hp640, hp641, hw⟩ := hw
        refine r_callSW (rest := []) (As := [.ref x1, .int ((gSx G) (x4 + (1 : Int32)).toNatClampNeg), .ref x3]) C sg_X0_save q2129 q2130 q76 q2131 rfl (Nat.le_of_ble_eq_true rfl) dL_law_2337 rfl hp640 hp641 (c_X0_save G l k638 k639 x1 ((gSx G) (x4 + (1 : Int32)).toNatClampNeg) x3 h _ hst hw) (k_I (fun r636 h637 hw => ?_))
        refine r_istore (L' := [(5, .int r636), (0, .ref (gSb G)), (1, .ref x1), (2, .ref x2), (3, .ref x3), (4, .int x4)]) C (by decide) rfl dL_law_2340 (r_aload_n C rfl 3 rfl dL_law_2342 (r_aload_n C rfl 1 rfl dL_law_2343 (r_iload C 5 rfl dL_law_2344 (r_iconst (v := (1 : Int32)) C (by decide) dL_law_2346 (r_iadd C dL_law_2347 ?_)))))
        obtain ⟨hi642, hw⟩ := hw
        refine r_scrLd C hi642 dL_law_2348 ?_
        obtain ⟨hq643, hw⟩ := hw
        refine r_callV (ci := 2) (rest := []) (As := [.int ((gSx G) (x4 + (1 : Int32)).toNatClampNeg)]) C sg_X3_save rfl rfl q2629 q2630 q2631 q90 q2632 rfl (Nat.le_of_ble_eq_true rfl) dL_law_2349 rfl hq643 hp640 hp641 (c_X3_save G l x2 ((gSx G) (x4 + (1 : Int32)).toNatClampNeg) h637 _ hw) (k_I (fun r644 h645 hw => ?_))
        refine r_istore (L' := [(6, .int r644), (5, .int r636), (0, .ref (gSb G)), (1, .ref x1), (2, .ref x2), (3, .ref x3), (4, .int x4)]) C (by decide) rfl dL_law_2352 (r_aload_n C rfl 4 rfl dL_law_2354 ?_)
        obtain ⟨hq646, hw⟩ := hw
        refine r_callV (ci := 2) (rest := []) (As := []) C sg_X3_thrown rfl rfl q2210 q2211 q2212 q90 q2213 rfl (Nat.le_of_ble_eq_true rfl) dL_law_2355 rfl hq646 hp640 hp641 (c_X3_thrown G l x2 h645 _ hw) (k_I (fun r647 h648 hw => ?_))
        refine r_iload C 1 rfl dL_law_2358 ?_
        refine r_icmp_eq (tgt := 2365) C (by decide) dL_law_2360 (fun hc649 => ?_) (fun hc649 => ?_)
        · have hw := hw.1 hc649
          refine r_iload C 1 rfl dL_law_2365 ?_
          refine r_if_ne (tgt := 2382) C (by decide) dL_law_2367 (fun hc650 => ?_) (fun hc650 => ?_)
          · have hw := hw.1 hc650
            exact r_sub C [2, 3, 4, 5, 6] rfl (b_L_law_2382 C hst LA23 hLA23 _ _ _ _ _ _ _ hp640 hp641 hw)
          · have hw := hw.2 hc650
            refine r_aload_n C rfl 5 rfl dL_law_2370 (r_iconst (v := (0 : Int32)) C (by decide) dL_law_2371 ?_)
            refine r_laload C dL_law_2372 hw (fun v651 hw => ?_)
            refine r_iload C 0 rfl dL_law_2373 (r_i2l C dL_law_2375 (r_lcmp C dL_law_2376 ?_))
            refine r_if_eq (tgt := 2382) C (by decide) dL_law_2377 (fun hc652 => ?_) (fun hc652 => ?_)
            · have hw := hw.1 hc652
              exact r_sub C [2, 3, 4, 5, 6] rfl (b_L_law_2382 C hst LA23 hLA23 _ _ _ _ _ _ _ hp640 hp641 hw)
            · have hw := hw.2 hc652
              refine r_iconst (v := (0 : Int32)) C (by decide) dL_law_2380 ?_
              exact r_zreturn (x := false) C dL_law_2381 hp640 hp641 ⟨_, rfl, hw⟩
        · have hw := hw.2 hc649
          refine r_iconst (v := (0 : Int32)) C (by decide) dL_law_2363 ?_
          exact r_zreturn (x := false) C dL_law_2364 hp640 hp641 ⟨_, rfl, hw⟩
      | 34, _, e9 =>
        have e9 : ((gSx G) x4.toNatClampNeg) &&& (63 : Int32) = (34 : Int32) := e9.trans (by decide)
        have hw := hw.2.2.2.2.2.2.2.2.2.2.2.2.2.2.2.2.2.2.2.2.2.2.2.2.2.2.2.2.2.2.2.2.2.2.2 e9
        refine r_tableAt (k := (34 : Int32)) (off := 2345) (tgt := 2385) C e9 (by decide) (by decide) (by decide) (by decide) dL_law_40 ?_
        refine r_aload_n C rfl 1 rfl dL_law_2385 (r_aload_n C rfl 0 rfl dL_law_2386 (r_iload C 4 rfl dL_law_2387 (r_iconst (v := (1 : Int32)) C (by decide) dL_law_2389 (r_iadd C dL_law_2390 ?_))))
        obtain ⟨hi653, hw⟩ := hw
        refine r_scrLd C hi653 dL_law_2391 ?_
        refine r_aload_n C rfl 3 rfl dL_law_2392 ?_
        obtain ⟨k656, k657, hp658, hp659, hw⟩ := hw
        refine r_callSW (rest := []) (As := [.ref x1, .int ((gSx G) (x4 + (1 : Int32)).toNatClampNeg), .ref x3]) C sg_X0_restore q2139 q2140 q76 q2141 rfl (Nat.le_of_ble_eq_true rfl) dL_law_2393 rfl hp658 hp659 (c_X0_restore G l k656 k657 x1 ((gSx G) (x4 + (1 : Int32)).toNatClampNeg) x3 h _ hst hw) (k_I (fun r654 h655 hw => ?_))
        refine r_istore (L' := [(5, .int r654), (0, .ref (gSb G)), (1, .ref x1), (2, .ref x2), (3, .ref x3), (4, .int x4)]) C (by decide) rfl dL_law_2396 (r_aload_n C rfl 3 rfl dL_law_2398 (r_aload_n C rfl 1 rfl dL_law_2399 (r_iload C 5 rfl dL_law_2400 (r_iconst (v := (1 : Int32)) C (by decide) dL_law_2402 (r_iadd C dL_law_2403 ?_)))))
        obtain ⟨hi660, hw⟩ := hw
        refine r_scrLd C hi660 dL_law_2404 ?_
        obtain ⟨hq661, hw⟩ := hw
        refine r_callV (ci := 2) (rest := []) (As := [.int ((gSx G) (x4 + (1 : Int32)).toNatClampNeg)]) C sg_X3_restore rfl rfl q2633 q2634 q2635 q90 q2636 rfl (Nat.le_of_ble_eq_true rfl) dL_law_2405 rfl hq661 hp658 hp659 (c_X3_restore G l x2 ((gSx G) (x4 + (1 : Int32)).toNatClampNeg) h655 _ hw) (k_I (fun r662 h663 hw => ?_))
        refine r_istore (L' := [(6, .int r662), (5, .int r654), (0, .ref (gSb G)), (1, .ref x1), (2, .ref x2), (3, .ref x3), (4, .int x4)]) C (by decide) rfl dL_law_2408 (r_aload_n C rfl 4 rfl dL_law_2410 ?_)
        obtain ⟨hq664, hw⟩ := hw
        refine r_callV (ci := 2) (rest := []) (As := []) C sg_X3_thrown rfl rfl q2210 q2211 q2212 q90 q2213 rfl (Nat.le_of_ble_eq_true rfl) dL_law_2411 rfl hq664 hp658 hp659 (c_X3_thrown G l x2 h663 _ hw) (k_I (fun r665 h666 hw => ?_))
        refine r_iload C 1 rfl dL_law_2414 ?_
        refine r_icmp_eq (tgt := 2421) C (by decide) dL_law_2416 (fun hc667 => ?_) (fun hc667 => ?_)
        · have hw := hw.1 hc667
          refine r_iload C 1 rfl dL_law_2421 ?_
          refine r_if_ne (tgt := 2438) C (by decide) dL_law_2423 (fun hc668 => ?_) (fun hc668 => ?_)
          · have hw := hw.1 hc668
            exact r_sub C [2, 3, 4, 5, 6] rfl (b_L_law_2438 C hst LA23 hLA23 _ _ _ _ _ _ _ hp658 hp659 hw)
          · have hw := hw.2 hc668
            refine r_aload_n C rfl 5 rfl dL_law_2426 (r_iconst (v := (0 : Int32)) C (by decide) dL_law_2427 ?_)
            refine r_laload C dL_law_2428 hw (fun v669 hw => ?_)
            refine r_iload C 0 rfl dL_law_2429 (r_i2l C dL_law_2431 (r_lcmp C dL_law_2432 ?_))
            refine r_if_eq (tgt := 2438) C (by decide) dL_law_2433 (fun hc670 => ?_) (fun hc670 => ?_)
            · have hw := hw.1 hc670
              exact r_sub C [2, 3, 4, 5, 6] rfl (b_L_law_2438 C hst LA23 hLA23 _ _ _ _ _ _ _ hp658 hp659 hw)
            · have hw := hw.2 hc670
              refine r_iconst (v := (0 : Int32)) C (by decide) dL_law_2436 ?_
              exact r_zreturn (x := false) C dL_law_2437 hp658 hp659 ⟨_, rfl, hw⟩
        · have hw := hw.2 hc667
          refine r_iconst (v := (0 : Int32)) C (by decide) dL_law_2419 ?_
          exact r_zreturn (x := false) C dL_law_2420 hp658 hp659 ⟨_, rfl, hw⟩
      | k9 + 35, hk9, _ => exact absurd hk9 (by omega)
theorem b_L_law_23 {G : gT} {l : Launch} {V : Hp → Nat → Nat → Nat → List (Nat × Value) → List Value → Prop} {mc ms : Nat} {Q : Bool → Hp → Prop} (C : Cx G l V cL_law 7 RX0 16 370 mc ms (pZ Q) none (some .boolean) [] false) (hst : l.stackTraces = false) : ∀ (k : Nat) (h : Hp) (c : Nat) (n : Nat) (x1 : Nat) (x2 : Nat) (x3 : Nat) (x4 : Int32), c ≤ mc → n ≤ ms → B_L_law_23 (gSn G) (gSx G) mc ms Q k h c n x1 x2 x3 x4 → V h c n 23 [(0, .ref (gSb G)), (1, .ref x1), (2, .ref x2), (3, .ref x3), (4, .int x4)] [] := by
  intro k
  induction k with
  | zero =>
    intro h c n x1 x2 x3 x4 b1 b2 hw
    exact hw.elim
  | succ k ih =>
    intro h c n x1 x2 x3 x4 b1 b2 hw
    exact s_L_law_23 C hst _ (fun h c n x1 x2 x3 x4 b1 b2 hw => ih h c n x1 x2 x3 x4 b1 b2 hw) h c n x1 x2 x3 x4 b1 b2 hw
theorem c_L_law {G : gT} {l : Launch} {V : Hp → Nat → Nat → Nat → List (Nat × Value) → List Value → Prop} {mc ms : Nat} {Q : Bool → Hp → Prop} (C : Cx G l V cL_law 7 RX0 16 370 mc ms (pZ Q) none (some .boolean) [] false) (hst : l.stackTraces = false) (h : Hp) (hw : w_L_law (gSn G) (gSx G) mc ms  h Q) : V h 0 0 0 [(0, .ref (gSb G))] [] := by
  unfold w_L_law at hw
  obtain ⟨hp672, hp673, hw⟩ := hw
  refine r_new C kX1 q122 q123 q77 df_0 dL_law_0 hp672 hp673 hw (fun q674 h675 hw => ?_)
  refine r_dup C rfl dL_law_3 ?_
  obtain ⟨k678, k679, hp680, hp681, hw⟩ := hw
  refine r_callI (rest := [.ref q674]) (As := []) C sg_X1_init rfl q124 q125 q77 q126 rfl (Nat.le_of_ble_eq_true rfl) dL_law_4 rfl hp680 hp681 (c_X1_init G l k678 k679 q674 h675 _ hw) (k_V (fun h677 hw => ?_))
  refine r_astore_n (L' := [(1, .ref q674), (0, .ref (gSb G))]) C rfl (by decide) rfl dL_law_7 ?_
  obtain ⟨hp682, hp683, hw⟩ := hw
  refine r_new C kX3 q2146 q2147 q90 df_2 dL_law_8 hp682 hp683 hw (fun q684 h685 hw => ?_)
  refine r_dup C rfl dL_law_11 ?_
  obtain ⟨k688, k689, hp690, hp691, hw⟩ := hw
  refine r_callI (rest := [.ref q684]) (As := []) C sg_X3_init rfl q2148 q2149 q90 q2150 rfl (Nat.le_of_ble_eq_true rfl) dL_law_12 rfl hp690 hp691 (c_X3_init G l k688 k689 q684 h685 _ hw) (k_V (fun h687 hw => ?_))
  refine r_astore_n (L' := [(2, .ref q684), (1, .ref q674), (0, .ref (gSb G))]) C rfl (by decide) rfl dL_law_15 (r_iconst (v := (1 : Int32)) C (by decide) dL_law_16 ?_)
  obtain ⟨hp692, hp693, hw⟩ := hw
  refine r_newa (atype := .long) (N := 1) (t := 1) C q1415 (by decide) rfl (fun _ z => by cases z) (fun cA => rfl) (by decide) (by decide) (by decide) dL_law_17 hp692 hp693 hw (fun q694 h695 hw => ?_)
  refine r_astore_n (L' := [(3, .ref q694), (2, .ref q684), (1, .ref q674), (0, .ref (gSb G))]) C rfl (by decide) rfl dL_law_19 (r_iconst (v := (0 : Int32)) C (by decide) dL_law_20 (r_istore (L' := [(4, .int (0 : Int32)), (3, .ref q694), (2, .ref q684), (1, .ref q674), (0, .ref (gSb G))]) C (by decide) rfl dL_law_21 ?_))
  obtain ⟨k9, hw⟩ := hw
  exact r_sub C [4, 3, 2, 1, 0] rfl (b_L_law_23 C hst _ _ _ _ _ _ _ _ hp692 hp693 hw)
