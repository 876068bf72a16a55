set_option maxRecDepth 100000
set_option maxHeartbeats 4000000

def w_X1_init (mc ms : Nat) (a0 : Nat) (h : Hp) (Q : Hp → Prop) : Prop :=
  0 + 1 ≤ mc ∧ 0 + 6 ≤ ms ∧ (nwO h 1 [.null, .null, .null, .null, .null, .null] (fun q3 h4 => ∃ k7 k8 : Nat, (0 + 1) + k7 ≤ mc ∧ (0 + 6) + k8 ≤ ms ∧ (w_X2_init k7 k8 q3 h4 (fun h6 => pf h6 a0 0 0 (.ref q3) (fun h11 => ((0 + 1) + k7) + 1 ≤ mc ∧ ((0 + 6) + k8) + 3 ≤ ms ∧ (nwO h11 11 [.null, .int 0, .int 0] (fun q14 h15 => ∃ k18 k19 : Nat, (((0 + 1) + k7) + 1) + k18 ≤ mc ∧ (((0 + 6) + k8) + 3) + k19 ≤ ms ∧ (wj_J9_init k18 k19 q14 h15 (fun h17 => pf h17 a0 0 1 (.ref q14) (fun h22 => ((((0 + 1) + k7) + 1) + k18) + 1 ≤ mc ∧ ((((0 + 6) + k8) + 3) + k19) + 2 ≤ ms ∧ (nwA h22 4 (2, .inr (.inr (.inr (.inr (fun _ => none))))) (fun q25 h26 => pf h26 a0 0 2 (.ref q25) (fun h27 => (((((0 + 1) + k7) + 1) + k18) + 1) + 1 ≤ mc ∧ (((((0 + 6) + k8) + 3) + k19) + 2) + 120 ≤ ms ∧ (nwA h27 0 (120, .inl (fun _ => 0)) (fun q30 h31 => pf h31 a0 0 3 (.ref q30) (fun h32 => Q h32))))))))))))))))
theorem sg_X1_init : ySg yX1_init 0 = true := by decide +kernel
theorem c_X1_init (G : gT) (l : Launch) (mc ms : Nat) (a0 : Nat) (h : Hp) (Q : Hp → Prop) (hw : w_X1_init mc ms a0 h Q) : Ct G l yX1_init (ws_ yX1_init cX1_init 1 (none)) 8 212 mc ms [.ref a0] h (pV Q) := by
  refine Ct.of (own := RX1) true (by decide +kernel) rfl (show (_ : Nat) ≤ _ from Nat.le_of_ble_eq_true rfl) (fun _ => rfl) (fun V C => ?_)
  show V h 0 0 0 [(0, .ref a0)] []
  unfold w_X1_init at hw
  refine r_aload_n C rfl 0 rfl dX1_init_0 ?_
  refine r_objInit C q127 q128 q129 (by decide) (by decide) dX1_init_1 ?_
  refine r_aload_n C rfl 0 rfl dX1_init_4 ?_
  obtain ⟨hp1, hp2, hw⟩ := hw
  refine r_new C kX2 q130 q131 q78 df_1 dX1_init_5 hp1 hp2 hw (fun q3 h4 hw => ?_)
  refine r_dup C rfl dX1_init_8 ?_
  obtain ⟨k7, k8, hp9, hp10, hw⟩ := hw
  refine r_callI (rest := [.ref q3, .ref a0]) (As := []) C sg_X2_init rfl q132 q133 q78 q134 rfl (Nat.le_of_ble_eq_true rfl) dX1_init_9 rfl hp9 hp10 (c_X2_init G l k7 k8 q3 h4 _ hw) (k_V (fun h6 hw => ?_))
  refine r_pf (k := 0) (v := .ref q3) C kX1 (by decide) (Or.inl q344) (Or.inl rfl) (Or.inl rfl) rfl rfl dX1_init_12 hw (fun h11 hw => ?_)
  refine r_aload_n C rfl 0 rfl dX1_init_15 ?_
  obtain ⟨hp12, hp13, hw⟩ := hw
  refine r_new C kJ9 q326 q327 q89 df_11 dX1_init_16 hp12 hp13 hw (fun q14 h15 hw => ?_)
  refine r_dup C rfl dX1_init_19 ?_
  obtain ⟨k18, k19, hp20, hp21, hw⟩ := hw
  refine r_callI (rest := [.ref q14, .ref a0]) (As := []) C sg_J9_init rfl q328 q329 q89 q330 rfl (Nat.le_of_ble_eq_true rfl) dX1_init_20 rfl hp20 hp21 (cj_J9_init G l k18 k19 q14 h15 _ hw) (k_V (fun h17 hw => ?_))
  refine r_pf (k := 1) (v := .ref q14) C kX1 (by decide) (Or.inl q345) (Or.inl rfl) (Or.inr ⟨rfl, rfl, q345⟩) rfl rfl dX1_init_23 hw (fun h22 hw => ?_)
  refine r_aload_n C rfl 0 rfl dX1_init_26 (r_iconst (v := (2 : Int32)) C (by decide) dX1_init_27 ?_)
  obtain ⟨hp23, hp24, hw⟩ := hw
  refine r_newq (N := 2) (t := 4) C q130 (by decide) (by decide) rfl (by decide) (by decide) (by decide) dX1_init_28 hp23 hp24 hw (fun q25 h26 hw => ?_)
  refine r_pf (k := 2) (v := .ref q25) C kX1 (by decide) (Or.inl q346) (Or.inl rfl) (Or.inr ⟨rfl, rfl, q346⟩) rfl rfl dX1_init_31 hw (fun h27 hw => ?_)
  refine r_aload_n C rfl 0 rfl dX1_init_34 (r_bipush (v := (120 : Int32)) C (by decide) dX1_init_35 ?_)
  obtain ⟨hp28, hp29, hw⟩ := hw
  refine r_newa (atype := .int) (N := 120) (t := 0) C q190 (by decide) rfl (fun _ z => by cases z) (fun cA => rfl) (by decide) (by decide) (by decide) dX1_init_37 hp28 hp29 hw (fun q30 h31 hw => ?_)
  refine r_pf (k := 3) (v := .ref q30) C kX1 (by decide) (Or.inl q347) (Or.inl rfl) (Or.inr ⟨rfl, rfl, q347⟩) rfl rfl dX1_init_39 hw (fun h32 hw => ?_)
  exact r_return C dX1_init_42 hp28 hp29 ⟨rfl, hw⟩
def w_X1_clearText (a0 : Nat) (h : Hp) (Q : Int32 → Hp → Prop) : Prop :=
  gfI h a0 0 4 (fun v1 => pf h a0 0 4 (.int (0 : Int32)) (fun h2 => Q v1 h2))
theorem sg_X1_clearText : ySg yX1_clearText 0 = true := by decide +kernel
theorem c_X1_clearText (G : gT) (l : Launch) (a0 : Nat) (h : Hp) (Q : Int32 → Hp → Prop) (hw : w_X1_clearText a0 h Q) : Ct G l yX1_clearText (ws_ yX1_clearText cX1_clearText 2 (some .int)) 1 12 0 0 [.ref a0] h (pI Q) := by
  refine Ct.of (own := RX1) false (by decide +kernel) rfl (show (_ : Nat) ≤ _ from Nat.le_of_ble_eq_true rfl) (fun z => by cases z) (fun V C => ?_)
  show V h 0 0 0 [(0, .ref a0)] []
  unfold w_X1_clearText at hw
  refine r_aload_n C rfl 0 rfl dX1_clearText_0 ?_
  refine r_gfI (k := 4) C kX1 (by decide) (Or.inl q348) (Or.inl rfl) dX1_clearText_1 hw (fun v1 hw => ?_)
  refine r_istore_n (L' := [(1, .int v1), (0, .ref a0)]) C rfl (by decide) rfl dX1_clearText_4 (r_aload_n C rfl 1 rfl dX1_clearText_5 (r_iconst (v := (0 : Int32)) C (by decide) dX1_clearText_6 ?_))
  refine r_pf (k := 4) (v := .int (0 : Int32)) C kX1 (by decide) (Or.inl q348) (Or.inl rfl) (Or.inl rfl) rfl rfl dX1_clearText_7 hw (fun h2 hw => ?_)
  refine r_iload_n C rfl 0 rfl dX1_clearText_10 ?_
  exact r_ireturn C dX1_clearText_11 (Nat.le_refl _) (Nat.le_refl _) ⟨_, rfl, hw⟩
def w_X1_here (a0 : Nat) (h : Hp) (Q : Int32 → Hp → Prop) : Prop :=
  gfI h a0 0 5 (fun v1 => gfI h a0 0 4 (fun v2 => (v2 ≤ v1 → Q (-1 : Int32) h) ∧ (¬ v2 ≤ v1 → gfR h a0 0 3 (fun v4 => gfI h a0 0 5 (fun v5 => nn v4 (fun y6 => rdI h y6 v5 (fun v7 => Q v7 h)))))))
theorem sg_X1_here : ySg yX1_here 0 = true := by decide +kernel
theorem c_X1_here (G : gT) (l : Launch) (a0 : Nat) (h : Hp) (Q : Int32 → Hp → Prop) (hw : w_X1_here a0 h Q) : Ct G l yX1_here (ws_ yX1_here cX1_here 1 (some .int)) 1 12 0 0 [.ref a0] h (pI Q) := by
  refine Ct.of (own := RX1) false (by decide +kernel) rfl (show (_ : Nat) ≤ _ from Nat.le_of_ble_eq_true rfl) (fun z => by cases z) (fun V C => ?_)
  show V h 0 0 0 [(0, .ref a0)] []
  unfold w_X1_here at hw
  refine r_aload_n C rfl 0 rfl dX1_here_0 ?_
  refine r_gfI (k := 5) C kX1 (by decide) (Or.inl q349) (Or.inl rfl) dX1_here_1 hw (fun v1 hw => ?_)
  refine r_aload_n C rfl 0 rfl dX1_here_4 ?_
  refine r_gfI (k := 4) C kX1 (by decide) (Or.inl q348) (Or.inl rfl) dX1_here_5 hw (fun v2 hw => ?_)
  refine r_icmp_ge (tgt := 23) C (by decide) dX1_here_8 (fun hc3 => ?_) (fun hc3 => ?_)
  · have hw := hw.1 hc3
    refine r_iconst (v := (-1 : Int32)) C (by decide) dX1_here_23 ?_
    exact r_ireturn C dX1_here_24 (Nat.le_refl _) (Nat.le_refl _) ⟨_, rfl, hw⟩
  · have hw := hw.2 hc3
    refine r_aload_n C rfl 0 rfl dX1_here_11 ?_
    refine r_gfR (k := 3) C kX1 (by decide) (Or.inl q347) (Or.inl rfl) dX1_here_12 hw (fun v4 hw => ?_)
    refine r_aload_n C rfl 0 rfl dX1_here_15 ?_
    refine r_gfI (k := 5) C kX1 (by decide) (Or.inl q349) (Or.inl rfl) dX1_here_16 hw (fun v5 hw => ?_)
    obtain ⟨y6, rfl, hw_y6⟩ := hw
    have hw := hw_y6
    refine r_iaload C dX1_here_19 hw (fun v7 hw => ?_)
    refine r_goto (tgt := 24) C (by decide) dX1_here_20 ?_
    exact r_ireturn C dX1_here_24 (Nat.le_refl _) (Nat.le_refl _) ⟨_, rfl, hw⟩
def w_X1_passes (a0 : Nat) (i1 : Int32) (h : Hp) (Q : Bool → Hp → Prop) : Prop :=
  hasC h a0 0 ∧ (w_X1_here a0 h (fun r2 h3 => (r2 = i1 → gfI h3 a0 0 5 (fun v5 => pf h3 a0 0 5 (.int (v5 + (1 : Int32))) (fun h6 => Q true h6))) ∧ (¬ r2 = i1 → Q false h3)))
theorem sg_X1_passes : ySg yX1_passes 1 = true := by decide +kernel
theorem c_X1_passes (G : gT) (l : Launch) (a0 : Nat) (i1 : Int32) (h : Hp) (Q : Bool → Hp → Prop) (hw : w_X1_passes a0 i1 h Q) : Ct G l yX1_passes (ws_ yX1_passes cX1_passes 2 (some .boolean)) 2 32 0 0 [.ref a0, .int i1] h (pZ Q) := by
  refine Ct.of (own := RX1) false (by decide +kernel) rfl (show (_ : Nat) ≤ _ from Nat.le_of_ble_eq_true rfl) (fun z => by cases z) (fun V C => ?_)
  show V h 0 0 0 [(0, .ref a0), (1, .int i1)] []
  unfold w_X1_passes at hw
  refine r_aload_n C rfl 0 rfl dX1_passes_0 ?_
  obtain ⟨hq1, hw⟩ := hw
  refine r_callV (ci := 0) (rest := []) (As := []) C sg_X1_here rfl rfl q386 q388 qs6 q77 q389 rfl (Nat.le_of_ble_eq_true rfl) dX1_passes_1 rfl hq1 (Nat.le_refl _) (Nat.le_refl _) (c_X1_here G l a0 h _ hw) (k_I (fun r2 h3 hw => ?_))
  refine r_iload_n C rfl 1 rfl dX1_passes_4 ?_
  refine r_icmp_eq (tgt := 10) C (by decide) dX1_passes_5 (fun hc4 => ?_) (fun hc4 => ?_)
  · have hw := hw.1 hc4
    refine r_aload_n C rfl 0 rfl dX1_passes_10 (r_dup C rfl dX1_passes_11 ?_)
    refine r_gfI (k := 5) C kX1 (by decide) (Or.inl q349) (Or.inl rfl) dX1_passes_12 hw (fun v5 hw => ?_)
    refine r_iconst (v := (1 : Int32)) C (by decide) dX1_passes_15 (r_iadd C dX1_passes_16 ?_)
    refine r_pf (k := 5) (v := .int (v5 + (1 : Int32))) C kX1 (by decide) (Or.inl q349) (Or.inl rfl) (Or.inl rfl) rfl rfl dX1_passes_17 hw (fun h6 hw => ?_)
    refine r_iconst (v := (1 : Int32)) C (by decide) dX1_passes_20 ?_
    exact r_zreturn (x := true) C dX1_passes_21 (Nat.le_refl _) (Nat.le_refl _) ⟨_, rfl, hw⟩
  · have hw := hw.2 hc4
    refine r_iconst (v := (0 : Int32)) C (by decide) dX1_passes_8 ?_
    exact r_zreturn (x := false) C dX1_passes_9 (Nat.le_refl _) (Nat.le_refl _) ⟨_, rfl, hw⟩
def S_X1_number_31 (Q : Int32 → Hp → Prop) (LA31 : Hp → Nat → Int32 → Int32 → Int32 → Int32 → Int32 → Int32 → Prop) (h : Hp) (x0 : Nat) (x1 : Int32) (x2 : Int32) (x3 : Int32) (x4 : Int32) (x5 : Int32) (x6 : Int32) : Prop :=
  (x1 ≤ x6 → Q x5 h) ∧ (¬ x1 ≤ x6 → hasC h x0 0 ∧ (w_X1_here x0 h (fun r4 h5 => w_X1_isIn ((r4 - (48 : Int32)).toInt64) (0 : Int64) (9 : Int64) h5 (fun r6 h7 => (r6 = false → Q (-1 : Int32) h7) ∧ (r6 = true → (x3 < (x5 + ((r4 - (48 : Int32)) * x4)) → Q (-1 : Int32) h7) ∧ (¬ x3 < (x5 + ((r4 - (48 : Int32)) * x4)) → (x2 ≤ (((x5 + ((r4 - (48 : Int32)) * x4)) + x4) - (1 : Int32)) → gfI h7 x0 0 5 (fun v11 => pf h7 x0 0 5 (.int (v11 + (1 : Int32))) (fun h12 => LA31 h12 x0 x1 x2 x3 (x4 / (10 : Int32)) (x5 + ((r4 - (48 : Int32)) * x4)) (x6 + (1 : Int32))))) ∧ (¬ x2 ≤ (((x5 + ((r4 - (48 : Int32)) * x4)) + x4) - (1 : Int32)) → Q (-1 : Int32) h7)))))))
def B_X1_number_31 (Q : Int32 → Hp → Prop) : Nat → Hp → Nat → Int32 → Int32 → Int32 → Int32 → Int32 → Int32 → Prop
  | 0, _, _, _, _, _, _, _, _ => False
  | k + 1, h, x0, x1, x2, x3, x4, x5, x6 => S_X1_number_31 Q (B_X1_number_31 Q k) h x0 x1 x2 x3 x4 x5 x6
def S_X1_number_6 (Q : Int32 → Hp → Prop) (LA6 : Hp → Nat → Int32 → Int32 → Int32 → Int32 → Int32 → Prop) (h : Hp) (x0 : Nat) (x1 : Int32) (x2 : Int32) (x3 : Int32) (x4 : Int32) (x5 : Int32) : Prop :=
  (x1 ≤ x5 → ∃ k9 : Nat, B_X1_number_31 Q k9 h x0 x1 x2 x3 x4 (0 : Int32) (0 : Int32)) ∧ (¬ x1 ≤ x5 → LA6 h x0 x1 x2 x3 (x4 * (10 : Int32)) (x5 + (1 : Int32)))
def B_X1_number_6 (Q : Int32 → Hp → Prop) : Nat → Hp → Nat → Int32 → Int32 → Int32 → Int32 → Int32 → Prop
  | 0, _, _, _, _, _, _, _ => False
  | k + 1, h, x0, x1, x2, x3, x4, x5 => S_X1_number_6 Q (B_X1_number_6 Q k) h x0 x1 x2 x3 x4 x5
def w_X1_number (a0 : Nat) (i1 : Int32) (i2 : Int32) (i3 : Int32) (h : Hp) (Q : Int32 → Hp → Prop) : Prop :=
  ∃ k9 : Nat, B_X1_number_6 Q k9 h a0 i1 i2 i3 (1 : Int32) (1 : Int32)
theorem s_X1_number_31 {G : gT} {l : Launch} {V : Hp → Nat → Nat → Nat → List (Nat × Value) → List Value → Prop} {Q : Int32 → Hp → Prop} (C : Cx G l V cX1_number 8 RX1 2 37 0 0 (pI Q) none (some .int) [] false) (LA31 : Hp → Nat → Int32 → Int32 → Int32 → Int32 → Int32 → Int32 → Prop) (hLA31 : ∀ (h : Hp) (x0 : Nat) (x1 : Int32) (x2 : Int32) (x3 : Int32) (x4 : Int32) (x5 : Int32) (x6 : Int32), LA31 h x0 x1 x2 x3 x4 x5 x6 → V h 0 0 31 [(0, .ref x0), (1, .int x1), (2, .int x2), (3, .int x3), (4, .int x4), (5, .int x5), (6, .int x6)] []) (h : Hp) (x0 : Nat) (x1 : Int32) (x2 : Int32) (x3 : Int32) (x4 : Int32) (x5 : Int32) (x6 : Int32) (hw : S_X1_number_31 Q LA31 h x0 x1 x2 x3 x4 x5 x6) : V h 0 0 31 [(0, .ref x0), (1, .int x1), (2, .int x2), (3, .int x3), (4, .int x4), (5, .int x5), (6, .int x6)] [] := by
  unfold S_X1_number_31 at hw
  refine r_iload C 6 rfl dX1_number_31 (r_iload_n C rfl 1 rfl dX1_number_33 ?_)
  refine r_icmp_ge (tgt := 123) C (by decide) dX1_number_34 (fun hc2 => ?_) (fun hc2 => ?_)
  · have hw := hw.1 hc2
    refine r_iload C 5 rfl dX1_number_123 ?_
    exact r_ireturn C dX1_number_125 (Nat.le_refl _) (Nat.le_refl _) ⟨_, rfl, hw⟩
  · have hw := hw.2 hc2
    refine r_aload_n C rfl 0 rfl dX1_number_37 ?_
    obtain ⟨hq3, hw⟩ := hw
    refine r_callV (ci := 0) (rest := []) (As := []) C sg_X1_here rfl rfl q386 q388 qs6 q77 q389 rfl (Nat.le_of_ble_eq_true rfl) dX1_number_38 rfl hq3 (Nat.le_refl _) (Nat.le_refl _) (c_X1_here G l x0 h _ hw) (k_I (fun r4 h5 hw => ?_))
    refine r_bipush (v := (48 : Int32)) C (by decide) dX1_number_41 (r_isub C dX1_number_43 (r_istore (L' := [(7, .int (r4 - (48 : Int32))), (0, .ref x0), (1, .int x1), (2, .int x2), (3, .int x3), (4, .int x4), (5, .int x5), (6, .int x6)]) C (by decide) rfl dX1_number_44 (r_iload C 0 rfl dX1_number_46 (r_i2l C dX1_number_48 (r_lconst (v := (0 : Int64)) C (by decide) dX1_number_49 ?_)))))
    refine r_ldc2 (v := (9 : Int64)) C q398 dX1_number_50 ?_
    refine r_callS (rest := []) (As := [.long ((r4 - (48 : Int32)).toInt64), .long (0 : Int64), .long (9 : Int64)]) C sg_X1_isIn q399 q400 q77 q401 rfl (Nat.le_of_ble_eq_true rfl) dX1_number_53 rfl (Nat.le_refl _) (Nat.le_refl _) (c_X1_isIn G l ((r4 - (48 : Int32)).toInt64) (0 : Int64) (9 : Int64) h5 _ hw) (k_Z (fun r6 h7 hw => ?_))
    refine r_if_eq_b (tgt := 88) C (by decide) dX1_number_56 (fun hc8 => ?_) (fun hc8 => ?_)
    · have hw := hw.1 hc8
      refine r_iconst (v := (-1 : Int32)) C (by decide) dX1_number_88 ?_
      exact r_ireturn C dX1_number_89 (Nat.le_refl _) (Nat.le_refl _) ⟨_, rfl, hw⟩
    · have hw := hw.2 hc8
      refine r_iload C 6 rfl dX1_number_59 (r_iload C 0 rfl dX1_number_61 (r_iload C 5 rfl dX1_number_63 (r_imul C dX1_number_65 (r_iadd C dX1_number_66 (r_iload_n C rfl 4 rfl dX1_number_67 ?_)))))
      refine r_icmp_gt (tgt := 88) C (by decide) dX1_number_68 (fun hc9 => ?_) (fun hc9 => ?_)
      · have hw := hw.1 hc9
        refine r_iconst (v := (-1 : Int32)) C (by decide) dX1_number_88 ?_
        exact r_ireturn C dX1_number_89 (Nat.le_refl _) (Nat.le_refl _) ⟨_, rfl, hw⟩
      · have hw := hw.2 hc9
        refine r_iload C 6 rfl dX1_number_71 (r_iload C 0 rfl dX1_number_73 (r_iload C 5 rfl dX1_number_75 (r_imul C dX1_number_77 (r_iadd C dX1_number_78 (r_iload C 5 rfl dX1_number_79 ?_)))))
        refine r_iadd C dX1_number_81 (r_iconst (v := (1 : Int32)) C (by decide) dX1_number_82 (r_isub C dX1_number_83 (r_iload_n C rfl 3 rfl dX1_number_84 ?_)))
        refine r_icmp_ge (tgt := 90) C (by decide) dX1_number_85 (fun hc10 => ?_) (fun hc10 => ?_)
        · have hw := hw.1 hc10
          refine r_iload C 6 rfl dX1_number_90 (r_iload C 0 rfl dX1_number_92 (r_iload C 5 rfl dX1_number_94 (r_imul C dX1_number_96 (r_iadd C dX1_number_97 (r_istore (L' := [(5, .int (x5 + ((r4 - (48 : Int32)) * x4))), (7, .int (r4 - (48 : Int32))), (0, .ref x0), (1, .int x1), (2, .int x2), (3, .int x3), (4, .int x4), (6, .int x6)]) C (by decide) rfl dX1_number_98 ?_)))))
          refine r_iload C 6 rfl dX1_number_100 (r_bipush (v := (10 : Int32)) C (by decide) dX1_number_102 (r_idiv C (by decide) dX1_number_104 (r_istore (L' := [(4, .int (x4 / (10 : Int32))), (5, .int (x5 + ((r4 - (48 : Int32)) * x4))), (7, .int (r4 - (48 : Int32))), (0, .ref x0), (1, .int x1), (2, .int x2), (3, .int x3), (6, .int x6)]) C (by decide) rfl dX1_number_105 (r_aload_n C rfl 3 rfl dX1_number_107 (r_dup C rfl dX1_number_108 ?_)))))
          refine r_gfI (k := 5) C kX1 (by decide) (Or.inl q349) (Or.inl rfl) dX1_number_109 hw (fun v11 hw => ?_)
          refine r_iconst (v := (1 : Int32)) C (by decide) dX1_number_112 (r_iadd C dX1_number_113 ?_)
          refine r_pf (k := 5) (v := .int (v11 + (1 : Int32))) C kX1 (by decide) (Or.inl q349) (Or.inl rfl) (Or.inl rfl) rfl rfl dX1_number_114 hw (fun h12 hw => ?_)
          refine r_iinc (v := x6 + (1 : Int32)) (L' := [(6, .int (x6 + (1 : Int32))), (4, .int (x4 / (10 : Int32))), (5, .int (x5 + ((r4 - (48 : Int32)) * x4))), (7, .int (r4 - (48 : Int32))), (0, .ref x0), (1, .int x1), (2, .int x2), (3, .int x3)]) C (u := 7) rfl (by rfl) (by decide) rfl dX1_number_117 (r_goto (tgt := 31) C (by decide) dX1_number_120 ?_)
          exact r_sub C [4, 5, 6, 7, 1, 2, 0] rfl (hLA31 _ _ _ _ _ _ _ _ hw)
        · have hw := hw.2 hc10
          refine r_iconst (v := (-1 : Int32)) C (by decide) dX1_number_88 ?_
          exact r_ireturn C dX1_number_89 (Nat.le_refl _) (Nat.le_refl _) ⟨_, rfl, hw⟩
theorem b_X1_number_31 {G : gT} {l : Launch} {V : Hp → Nat → Nat → Nat → List (Nat × Value) → List Value → Prop} {Q : Int32 → Hp → Prop} (C : Cx G l V cX1_number 8 RX1 2 37 0 0 (pI Q) none (some .int) [] false) : ∀ (k : Nat) (h : Hp) (x0 : Nat) (x1 : Int32) (x2 : Int32) (x3 : Int32) (x4 : Int32) (x5 : Int32) (x6 : Int32), B_X1_number_31 Q k h x0 x1 x2 x3 x4 x5 x6 → V h 0 0 31 [(0, .ref x0), (1, .int x1), (2, .int x2), (3, .int x3), (4, .int x4), (5, .int x5), (6, .int x6)] [] := by
  intro k
  induction k with
  | zero =>
    intro h x0 x1 x2 x3 x4 x5 x6 hw
    exact hw.elim
  | succ k ih =>
    intro h x0 x1 x2 x3 x4 x5 x6 hw
    exact s_X1_number_31 C _ (fun h x0 x1 x2 x3 x4 x5 x6 hw => ih h x0 x1 x2 x3 x4 x5 x6 hw) h x0 x1 x2 x3 x4 x5 x6 hw
theorem s_X1_number_6 {G : gT} {l : Launch} {V : Hp → Nat → Nat → Nat → List (Nat × Value) → List Value → Prop} {Q : Int32 → Hp → Prop} (C : Cx G l V cX1_number 8 RX1 2 37 0 0 (pI Q) none (some .int) [] false) (LA6 : Hp → Nat → Int32 → Int32 → Int32 → Int32 → Int32 → Prop) (hLA6 : ∀ (h : Hp) (x0 : Nat) (x1 : Int32) (x2 : Int32) (x3 : Int32) (x4 : Int32) (x5 : Int32), LA6 h x0 x1 x2 x3 x4 x5 → V h 0 0 6 [(0, .ref x0), (1, .int x1), (2, .int x2), (3, .int x3), (4, .int x4), (5, .int x5)] []) (h : Hp) (x0 : Nat) (x1 : Int32) (x2 : Int32) (x3 : Int32) (x4 : Int32) (x5 : Int32) (hw : S_X1_number_6 Q LA6 h x0 x1 x2 x3 x4 x5) : V h 0 0 6 [(0, .ref x0), (1, .int x1), (2, .int x2), (3, .int x3), (4, .int x4), (5, .int x5)] [] := by
  unfold S_X1_number_6 at hw
  refine r_iload C 5 rfl dX1_number_6 (r_iload_n C rfl 1 rfl dX1_number_8 ?_)
  refine r_icmp_ge (tgt := 25) C (by decide) dX1_number_9 (fun hc1 => ?_) (fun hc1 => ?_)
  · have hw := hw.1 hc1
    refine r_iconst (v := (0 : Int32)) C (by decide) dX1_number_25 (r_istore (L' := [(5, .int (0 : Int32)), (0, .ref x0), (1, .int x1), (2, .int x2), (3, .int x3), (4, .int x4)]) C (by decide) rfl dX1_number_26 (r_iconst (v := (0 : Int32)) C (by decide) dX1_number_28 (r_istore (L' := [(6, .int (0 : Int32)), (5, .int (0 : Int32)), (0, .ref x0), (1, .int x1), (2, .int x2), (3, .int x3), (4, .int x4)]) C (by decide) rfl dX1_number_29 ?_)))
    obtain ⟨k9, hw⟩ := hw
    exact r_sub C [2, 3, 4, 5, 6, 1, 0] rfl (b_X1_number_31 C _ _ _ _ _ _ _ _ _ hw)
  · have hw := hw.2 hc1
    refine r_iload C 4 rfl dX1_number_12 (r_bipush (v := (10 : Int32)) C (by decide) dX1_number_14 (r_imul C dX1_number_16 (r_istore (L' := [(4, .int (x4 * (10 : Int32))), (0, .ref x0), (1, .int x1), (2, .int x2), (3, .int x3), (5, .int x5)]) C (by decide) rfl dX1_number_17 (r_iinc (v := x5 + (1 : Int32)) (L' := [(5, .int (x5 + (1 : Int32))), (4, .int (x4 * (10 : Int32))), (0, .ref x0), (1, .int x1), (2, .int x2), (3, .int x3)]) C (u := 5) rfl (by rfl) (by decide) rfl dX1_number_19 (r_goto (tgt := 6) C (by decide) dX1_number_22 ?_)))))
    exact r_sub C [2, 3, 4, 5, 1, 0] rfl (hLA6 _ _ _ _ _ _ _ hw)
theorem b_X1_number_6 {G : gT} {l : Launch} {V : Hp → Nat → Nat → Nat → List (Nat × Value) → List Value → Prop} {Q : Int32 → Hp → Prop} (C : Cx G l V cX1_number 8 RX1 2 37 0 0 (pI Q) none (some .int) [] false) : ∀ (k : Nat) (h : Hp) (x0 : Nat) (x1 : Int32) (x2 : Int32) (x3 : Int32) (x4 : Int32) (x5 : Int32), B_X1_number_6 Q k h x0 x1 x2 x3 x4 x5 → V h 0 0 6 [(0, .ref x0), (1, .int x1), (2, .int x2), (3, .int x3), (4, .int x4), (5, .int x5)] [] := by
  intro k
  induction k with
  | zero =>
    intro h x0 x1 x2 x3 x4 x5 hw
    exact hw.elim
  | succ k ih =>
    intro h x0 x1 x2 x3 x4 x5 hw
    exact s_X1_number_6 C _ (fun h x0 x1 x2 x3 x4 x5 hw => ih h x0 x1 x2 x3 x4 x5 hw) h x0 x1 x2 x3 x4 x5 hw
theorem sg_X1_number : ySg yX1_number 3 = true := by decide +kernel
theorem c_X1_number (G : gT) (l : Launch) (a0 : Nat) (i1 : Int32) (i2 : Int32) (i3 : Int32) (h : Hp) (Q : Int32 → Hp → Prop) (hw : w_X1_number a0 i1 i2 i3 h Q) : Ct G l yX1_number (ws_ yX1_number cX1_number 8 (some .int)) 2 37 0 0 [.ref a0, .int i1, .int i2, .int i3] h (pI Q) := by
  refine Ct.of (own := RX1) false (by decide +kernel) rfl (show (_ : Nat) ≤ _ from Nat.le_of_ble_eq_true rfl) (fun z => by cases z) (fun V C => ?_)
  show V h 0 0 0 [(0, .ref a0), (1, .int i1), (2, .int i2), (3, .int i3)] []
  unfold w_X1_number at hw
  refine r_iconst (v := (1 : Int32)) C (by decide) dX1_number_0 (r_istore (L' := [(4, .int (1 : Int32)), (0, .ref a0), (1, .int i1), (2, .int i2), (3, .int i3)]) C (by decide) rfl dX1_number_1 (r_iconst (v := (1 : Int32)) C (by decide) dX1_number_3 (r_istore (L' := [(5, .int (1 : Int32)), (4, .int (1 : Int32)), (0, .ref a0), (1, .int i1), (2, .int i2), (3, .int i3)]) C (by decide) rfl dX1_number_4 ?_)))
  obtain ⟨k9, hw⟩ := hw
  exact r_sub C [2, 3, 4, 5, 1, 0] rfl (b_X1_number_6 C _ _ _ _ _ _ _ _ hw)
def w_X1_done (a0 : Nat) (b1 : Bool) (h : Hp) (Q : Hp → Prop) : Prop :=
  gfI h a0 0 6 (fun v1 => pf h a0 0 6 (.int (v1 + (bI (if b1 = false then true else false)))) (fun h2 => Q h2))
theorem sg_X1_done : ySg yX1_done 1 = true := by decide +kernel
theorem c_X1_done (G : gT) (l : Launch) (a0 : Nat) (b1 : Bool) (h : Hp) (Q : Hp → Prop) (hw : w_X1_done a0 b1 h Q) : Ct G l yX1_done (ws_ yX1_done cX1_done 2 (none)) 1 12 0 0 [.ref a0, .int (bI b1)] h (pV Q) := by
  refine Ct.of (own := RX1) false (by decide +kernel) rfl (show (_ : Nat) ≤ _ from Nat.le_of_ble_eq_true rfl) (fun z => by cases z) (fun V C => ?_)
  show V h 0 0 0 [(0, .ref a0), (1, .int (bI b1))] []
  unfold w_X1_done at hw
  refine r_aload_n C rfl 0 rfl dX1_done_0 (r_dup C rfl dX1_done_1 ?_)
  refine r_gfI (k := 6) C kX1 (by decide) (Or.inl q350) (Or.inl rfl) dX1_done_2 hw (fun v1 hw => ?_)
  refine r_iload_n C rfl 1 rfl dX1_done_5 ?_
  have hJ : V h 0 0 14 [] [.int (bI (if b1 = false then true else false)), .int v1, .ref a0] := by
    refine r_iadd C dX1_done_14 ?_
    refine r_pf (k := 6) (v := .int (v1 + (bI (if b1 = false then true else false)))) C kX1 (by decide) (Or.inl q350) (Or.inl rfl) (Or.inl rfl) rfl rfl dX1_done_15 hw (fun h2 hw => ?_)
    exact r_return C dX1_done_18 (Nat.le_refl _) (Nat.le_refl _) ⟨rfl, hw⟩
  refine r_if_eq_b (tgt := 13) C (by decide) dX1_done_6 (fun hc3 => ?_) (fun hc3 => ?_)
  · have hJ4 := hJ
    try simp only [if_pos hc3] at hJ4
    refine r_iconst (v := (1 : Int32)) C (by decide) dX1_done_13 ?_
    exact r_sub C [] rfl hJ4
  · have hJ4 := hJ
    try simp only [if_neg (show ¬ b1 = false from by rw [hc3]; decide)] at hJ4
    refine r_iconst (v := (0 : Int32)) C (by decide) dX1_done_9 (r_goto (tgt := 14) C (by decide) dX1_done_10 ?_)
    exact r_sub C [] rfl hJ4
def S_X1_ascending_8 (Q : Int32 → Hp → Prop) (LA8 : Hp → Nat → Int32 → Int32 → Int32 → Int32 → Int32 → Prop) (h : Hp) (x0 : Nat) (x1 : Int32) (x2 : Int32) (x3 : Int32) (x4 : Int32) (x5 : Int32) : Prop :=
  hasC h x0 0 ∧ (w_X1_here x0 h (fun r2 h3 => w_X1_isIn ((r2 - (48 : Int32)).toInt64) ((x4 + (1 : Int32)).toInt64) x2.toInt64 h3 (fun r4 h5 => (r4 = false → Q (if x1 ≤ x5 then x3 else (-1 : Int32)) h5) ∧ (r4 = true → hasC h5 x0 0 ∧ (w_X1_here x0 h5 (fun r10 h11 => gfI h11 x0 0 5 (fun v12 => pf h11 x0 0 5 (.int (v12 + (1 : Int32))) (fun h13 => LA8 h13 x0 x1 x2 (x3 ||| ((1 : Int32) <<< ((r10 - (48 : Int32)) &&& 31))) (r10 - (48 : Int32)) (x5 + (1 : Int32))))))))))
def B_X1_ascending_8 (Q : Int32 → Hp → Prop) : Nat → Hp → Nat → Int32 → Int32 → Int32 → Int32 → Int32 → Prop
  | 0, _, _, _, _, _, _, _ => False
  | k + 1, h, x0, x1, x2, x3, x4, x5 => S_X1_ascending_8 Q (B_X1_ascending_8 Q k) h x0 x1 x2 x3 x4 x5
def w_X1_ascending (a0 : Nat) (i1 : Int32) (i2 : Int32) (h : Hp) (Q : Int32 → Hp → Prop) : Prop :=
  ∃ k9 : Nat, B_X1_ascending_8 Q k9 h a0 i1 i2 (0 : Int32) (-1 : Int32) (0 : Int32)
theorem s_X1_ascending_8 {G : gT} {l : Launch} {V : Hp → Nat → Nat → Nat → List (Nat × Value) → List Value → Prop} {Q : Int32 → Hp → Prop} (C : Cx G l V cX1_ascending 6 RX1 2 37 0 0 (pI Q) none (some .int) [] false) (LA8 : Hp → Nat → Int32 → Int32 → Int32 → Int32 → Int32 → Prop) (hLA8 : ∀ (h : Hp) (x0 : Nat) (x1 : Int32) (x2 : Int32) (x3 : Int32) (x4 : Int32) (x5 : Int32), LA8 h x0 x1 x2 x3 x4 x5 → V h 0 0 8 [(0, .ref x0), (1, .int x1), (2, .int x2), (3, .int x3), (4, .int x4), (5, .int x5)] []) (h : Hp) (x0 : Nat) (x1 : Int32) (x2 : Int32) (x3 : Int32) (x4 : Int32) (x5 : Int32) (hw : S_X1_ascending_8 Q LA8 h x0 x1 x2 x3 x4 x5) : V h 0 0 8 [(0, .ref x0), (1, .int x1), (2, .int x2), (3, .int x3), (4, .int x4), (5, .int x5)] [] := by
  unfold S_X1_ascending_8 at hw
  refine r_aload_n C rfl 0 rfl dX1_ascending_8 ?_
  obtain ⟨hq1, hw⟩ := hw
  refine r_callV (ci := 0) (rest := []) (As := []) C sg_X1_here rfl rfl q386 q388 qs6 q77 q389 rfl (Nat.le_of_ble_eq_true rfl) dX1_ascending_9 rfl hq1 (Nat.le_refl _) (Nat.le_refl _) (c_X1_here G l x0 h _ hw) (k_I (fun r2 h3 hw => ?_))
  refine r_bipush (v := (48 : Int32)) C (by decide) dX1_ascending_12 (r_isub C dX1_ascending_14 (r_i2l C dX1_ascending_15 (r_iload C 4 rfl dX1_ascending_16 (r_iconst (v := (1 : Int32)) C (by decide) dX1_ascending_18 (r_iadd C dX1_ascending_19 ?_)))))
  refine r_i2l C dX1_ascending_20 (r_iload_n C rfl 2 rfl dX1_ascending_21 (r_i2l C dX1_ascending_22 ?_))
  refine r_callS (rest := []) (As := [.long ((r2 - (48 : Int32)).toInt64), .long ((x4 + (1 : Int32)).toInt64), .long x2.toInt64]) C sg_X1_isIn q399 q400 q77 q401 rfl (Nat.le_of_ble_eq_true rfl) dX1_ascending_23 rfl (Nat.le_refl _) (Nat.le_refl _) (c_X1_isIn G l ((r2 - (48 : Int32)).toInt64) ((x4 + (1 : Int32)).toInt64) x2.toInt64 h3 _ hw) (k_Z (fun r4 h5 hw => ?_))
  refine r_if_eq_b (tgt := 61) C (by decide) dX1_ascending_26 (fun hc6 => ?_) (fun hc6 => ?_)
  · have hw := hw.1 hc6
    refine r_iload C 5 rfl dX1_ascending_61 (r_iload_n C rfl 1 rfl dX1_ascending_63 ?_)
    have hJ : V h5 0 0 72 [] [.int (if x1 ≤ x5 then x3 else (-1 : Int32))] := by
      exact r_ireturn C dX1_ascending_72 (Nat.le_refl _) (Nat.le_refl _) ⟨_, rfl, hw⟩
    refine r_icmp_ge (tgt := 71) C (by decide) dX1_ascending_64 (fun hc7 => ?_) (fun hc7 => ?_)
    · have hJ8 := hJ
      try simp only [if_pos hc7] at hJ8
      refine r_iload_n C rfl 3 rfl dX1_ascending_71 ?_
      exact r_sub C [] rfl hJ8
    · have hJ8 := hJ
      try simp only [if_neg hc7] at hJ8
      refine r_iconst (v := (-1 : Int32)) C (by decide) dX1_ascending_67 (r_goto (tgt := 72) C (by decide) dX1_ascending_68 ?_)
      exact r_sub C [] rfl hJ8
  · have hw := hw.2 hc6
    refine r_aload_n C rfl 0 rfl dX1_ascending_29 ?_
    obtain ⟨hq9, hw⟩ := hw
    refine r_callV (ci := 0) (rest := []) (As := []) C sg_X1_here rfl rfl q386 q388 qs6 q77 q389 rfl (Nat.le_of_ble_eq_true rfl) dX1_ascending_30 rfl hq9 (Nat.le_refl _) (Nat.le_refl _) (c_X1_here G l x0 h5 _ hw) (k_I (fun r10 h11 hw => ?_))
    refine r_bipush (v := (48 : Int32)) C (by decide) dX1_ascending_33 (r_isub C dX1_ascending_35 (r_istore (L' := [(4, .int (r10 - (48 : Int32))), (0, .ref x0), (1, .int x1), (2, .int x2), (3, .int x3), (5, .int x5)]) C (by decide) rfl dX1_ascending_36 (r_iload_n C rfl 4 rfl dX1_ascending_38 (r_iconst (v := (1 : Int32)) C (by decide) dX1_ascending_39 (r_iload C 0 rfl dX1_ascending_40 ?_)))))
    refine r_ishl C dX1_ascending_42 (r_ior C dX1_ascending_43 (r_istore_n (L' := [(3, .int (x3 ||| ((1 : Int32) <<< ((r10 - (48 : Int32)) &&& 31)))), (4, .int (r10 - (48 : Int32))), (0, .ref x0), (1, .int x1), (2, .int x2), (5, .int x5)]) C rfl (by decide) rfl dX1_ascending_44 (r_aload_n C rfl 2 rfl dX1_ascending_45 (r_dup C rfl dX1_ascending_46 ?_))))
    refine r_gfI (k := 5) C kX1 (by decide) (Or.inl q349) (Or.inl rfl) dX1_ascending_47 hw (fun v12 hw => ?_)
    refine r_iconst (v := (1 : Int32)) C (by decide) dX1_ascending_50 (r_iadd C dX1_ascending_51 ?_)
    refine r_pf (k := 5) (v := .int (v12 + (1 : Int32))) C kX1 (by decide) (Or.inl q349) (Or.inl rfl) (Or.inl rfl) rfl rfl dX1_ascending_52 hw (fun h13 hw => ?_)
    refine r_iinc (v := x5 + (1 : Int32)) (L' := [(5, .int (x5 + (1 : Int32))), (3, .int (x3 ||| ((1 : Int32) <<< ((r10 - (48 : Int32)) &&& 31)))), (4, .int (r10 - (48 : Int32))), (0, .ref x0), (1, .int x1), (2, .int x2)]) C (u := 5) rfl (by rfl) (by decide) rfl dX1_ascending_55 (r_goto (tgt := 8) C (by decide) dX1_ascending_58 ?_)
    exact r_sub C [3, 4, 5, 1, 2, 0] rfl (hLA8 _ _ _ _ _ _ _ hw)
theorem b_X1_ascending_8 {G : gT} {l : Launch} {V : Hp → Nat → Nat → Nat → List (Nat × Value) → List Value → Prop} {Q : Int32 → Hp → Prop} (C : Cx G l V cX1_ascending 6 RX1 2 37 0 0 (pI Q) none (some .int) [] false) : ∀ (k : Nat) (h : Hp) (x0 : Nat) (x1 : Int32) (x2 : Int32) (x3 : Int32) (x4 : Int32) (x5 : Int32), B_X1_ascending_8 Q k h x0 x1 x2 x3 x4 x5 → V h 0 0 8 [(0, .ref x0), (1, .int x1), (2, .int x2), (3, .int x3), (4, .int x4), (5, .int x5)] [] := by
  intro k
  induction k with
  | zero =>
    intro h x0 x1 x2 x3 x4 x5 hw
    exact hw.elim
  | succ k ih =>
    intro h x0 x1 x2 x3 x4 x5 hw
    exact s_X1_ascending_8 C _ (fun h x0 x1 x2 x3 x4 x5 hw => ih h x0 x1 x2 x3 x4 x5 hw) h x0 x1 x2 x3 x4 x5 hw
theorem sg_X1_ascending : ySg yX1_ascending 2 = true := by decide +kernel
theorem c_X1_ascending (G : gT) (l : Launch) (a0 : Nat) (i1 : Int32) (i2 : Int32) (h : Hp) (Q : Int32 → Hp → Prop) (hw : w_X1_ascending a0 i1 i2 h Q) : Ct G l yX1_ascending (ws_ yX1_ascending cX1_ascending 6 (some .int)) 2 37 0 0 [.ref a0, .int i1, .int i2] h (pI Q) := by
  refine Ct.of (own := RX1) false (by decide +kernel) rfl (show (_ : Nat) ≤ _ from Nat.le_of_ble_eq_true rfl) (fun z => by cases z) (fun V C => ?_)
  show V h 0 0 0 [(0, .ref a0), (1, .int i1), (2, .int i2)] []
  unfold w_X1_ascending at hw
  refine r_iconst (v := (0 : Int32)) C (by decide) dX1_ascending_0 (r_istore_n (L' := [(3, .int (0 : Int32)), (0, .ref a0), (1, .int i1), (2, .int i2)]) C rfl (by decide) rfl dX1_ascending_1 (r_iconst (v := (-1 : Int32)) C (by decide) dX1_ascending_2 (r_istore (L' := [(4, .int (-1 : Int32)), (3, .int (0 : Int32)), (0, .ref a0), (1, .int i1), (2, .int i2)]) C (by decide) rfl dX1_ascending_3 (r_iconst (v := (0 : Int32)) C (by decide) dX1_ascending_5 (r_istore (L' := [(5, .int (0 : Int32)), (4, .int (-1 : Int32)), (3, .int (0 : Int32)), (0, .ref a0), (1, .int i1), (2, .int i2)]) C (by decide) rfl dX1_ascending_6 ?_)))))
  obtain ⟨k9, hw⟩ := hw
  exact r_sub C [3, 4, 5, 2, 1, 0] rfl (b_X1_ascending_8 C _ _ _ _ _ _ _ _ hw)
def B_X1_readReign_60 (mc ms : Nat) (Q : Bool → Hp → Prop) (h : Hp) (c : Nat) (n : Nat) (x3 : Int32) : Prop :=
  Q (if x3 = (-1 : Int32) then false else true) h
def B_X1_readReign_57 (mc ms : Nat) (Q : Bool → Hp → Prop) (h : Hp) (c : Nat) (n : Nat) (x3 : Int32) (s0 : Nat) (s1 : Bool) : Prop :=
  hasC h s0 0 ∧ (w_X1_done s0 s1 h (fun h17 => B_X1_readReign_60 mc ms Q h17 c n x3))
def B_X1_readReign_28 (mc ms : Nat) (Q : Bool → Hp → Prop) (h : Hp) (c : Nat) (n : Nat) (x0 : Nat) (x1 : Nat) (x2 : Int32) (s0 : Int32) : Prop :=
  (s0 = (-1 : Int32) → B_X1_readReign_60 mc ms Q h c n s0) ∧ (¬ s0 = (-1 : Int32) → hasC h x1 1 ∧ (w_X2_canReign x1 x2 h (fun r3 h4 => (r3 = false → B_X1_readReign_57 mc ms Q h4 c n s0 x0 false) ∧ (r3 = true → hasC h4 x1 1 ∧ (∃ k9 k10 : Nat, c + k9 ≤ mc ∧ n + k10 ≤ ms ∧ (w_X2_reign k9 k10 x1 x2 s0 h4 (fun r7 h8 => B_X1_readReign_57 mc ms Q h8 (c + k9) (n + k10) s0 x0 (if r7 < 0 then false else true))))))))
def w_X1_readReign (mc ms : Nat) (a0 : Nat) (a1 : Nat) (h : Hp) (Q : Bool → Hp → Prop) : Prop :=
  hasC h a0 0 ∧ (w_X1_number a0 (4 : Int32) (1000 : Int32) (1999 : Int32) h (fun r21 h22 => (¬ r21 = (-1 : Int32) → hasC h22 a0 0 ∧ (w_X1_ascending a0 (1 : Int32) (7 : Int32) h22 (fun r25 h26 => B_X1_readReign_28 mc ms Q h26 0 0 a0 a1 r21 r25))) ∧ (r21 = (-1 : Int32) → B_X1_readReign_28 mc ms Q h22 0 0 a0 a1 r21 (-1 : Int32))))
theorem b_X1_readReign_60 {G : gT} {l : Launch} {V : Hp → Nat → Nat → Nat → List (Nat × Value) → List Value → Prop} {mc ms : Nat} {Q : Bool → Hp → Prop} (C : Cx G l V cX1_readReign 4 RX1 8 213 mc ms (pZ Q) none (some .boolean) [] false) (h : Hp) (c : Nat) (n : Nat) (x3 : Int32) (b1 : c ≤ mc) (b2 : n ≤ ms) (hw : B_X1_readReign_60 mc ms Q h c n x3) : V h c n 60 [(3, .int x3)] [] := by
  unfold B_X1_readReign_60 at hw
  refine r_iload_n C rfl 0 rfl dX1_readReign_60 (r_iconst (v := (-1 : Int32)) C (by decide) dX1_readReign_61 ?_)
  have hJ : V h c n 70 [] [.int (bI (if x3 = (-1 : Int32) then false else true))] := by
    exact r_zreturn (x := (if x3 = (-1 : Int32) then false else true)) C dX1_readReign_70 b1 b2 ⟨_, rfl, hw⟩
  refine r_icmp_eq (tgt := 69) C (by decide) dX1_readReign_62 (fun hc18 => ?_) (fun hc18 => ?_)
  · have hJ19 := hJ
    try simp only [if_pos hc18] at hJ19
    refine r_iconst (v := (0 : Int32)) C (by decide) dX1_readReign_69 ?_
    exact r_sub C [] rfl hJ19
  · have hJ19 := hJ
    try simp only [if_neg hc18] at hJ19
    refine r_iconst (v := (1 : Int32)) C (by decide) dX1_readReign_65 (r_goto (tgt := 70) C (by decide) dX1_readReign_66 ?_)
    exact r_sub C [] rfl hJ19
theorem b_X1_readReign_57 {G : gT} {l : Launch} {V : Hp → Nat → Nat → Nat → List (Nat × Value) → List Value → Prop} {mc ms : Nat} {Q : Bool → Hp → Prop} (C : Cx G l V cX1_readReign 4 RX1 8 213 mc ms (pZ Q) none (some .boolean) [] false) (h : Hp) (c : Nat) (n : Nat) (x3 : Int32) (s0 : Nat) (s1 : Bool) (b1 : c ≤ mc) (b2 : n ≤ ms) (hw : B_X1_readReign_57 mc ms Q h c n x3 s0 s1) : V h c n 57 [(3, .int x3)] [.int (bI s1), .ref s0] := by
  unfold B_X1_readReign_57 at hw
  obtain ⟨hq15, hw⟩ := hw
  refine r_callV (ci := 0) (rest := []) (As := [.int (bI s1)]) C sg_X1_done rfl rfl q824 q826 qs14 q77 q827 rfl (Nat.le_of_ble_eq_true rfl) dX1_readReign_57 rfl hq15 b1 b2 (c_X1_done G l s0 s1 h _ hw) (k_V (fun h17 hw => ?_))
  exact r_sub C [0] rfl (b_X1_readReign_60 C _ _ _ _ b1 b2 hw)
theorem b_X1_readReign_28 {G : gT} {l : Launch} {V : Hp → Nat → Nat → Nat → List (Nat × Value) → List Value → Prop} {mc ms : Nat} {Q : Bool → Hp → Prop} (C : Cx G l V cX1_readReign 4 RX1 8 213 mc ms (pZ Q) none (some .boolean) [] false) (h : Hp) (c : Nat) (n : Nat) (x0 : Nat) (x1 : Nat) (x2 : Int32) (s0 : Int32) (b1 : c ≤ mc) (b2 : n ≤ ms) (hw : B_X1_readReign_28 mc ms Q h c n x0 x1 x2 s0) : V h c n 28 [(0, .ref x0), (1, .ref x1), (2, .int x2)] [.int s0] := by
  unfold B_X1_readReign_28 at hw
  refine r_istore_n (L' := [(3, .int s0), (0, .ref x0), (1, .ref x1), (2, .int x2)]) C rfl (by decide) rfl dX1_readReign_28 (r_iload_n C rfl 0 rfl dX1_readReign_29 (r_iconst (v := (-1 : Int32)) C (by decide) dX1_readReign_30 ?_))
  refine r_icmp_eq (tgt := 60) C (by decide) dX1_readReign_31 (fun hc1 => ?_) (fun hc1 => ?_)
  · have hw := hw.1 hc1
    exact r_sub C [0] rfl (b_X1_readReign_60 C _ _ _ _ b1 b2 hw)
  · have hw := hw.2 hc1
    refine r_aload_n C rfl 1 rfl dX1_readReign_34 (r_aload_n C rfl 2 rfl dX1_readReign_35 (r_iload_n C rfl 3 rfl dX1_readReign_36 ?_))
    obtain ⟨hq2, hw⟩ := hw
    refine r_callV (ci := 1) (rest := [.ref x0]) (As := [.int x2]) C sg_X2_canReign rfl rfl q406 q407 q408 q78 q409 rfl (Nat.le_of_ble_eq_true rfl) dX1_readReign_37 rfl hq2 b1 b2 (c_X2_canReign G l x1 x2 h _ hw) (k_Z (fun r3 h4 hw => ?_))
    refine r_if_eq_b (tgt := 56) C (by decide) dX1_readReign_40 (fun hc5 => ?_) (fun hc5 => ?_)
    · have hw := hw.1 hc5
      refine r_iconst (v := (0 : Int32)) C (by decide) dX1_readReign_56 ?_
      exact r_sub C [0] rfl (b_X1_readReign_57 C _ _ _ _ _ _ b1 b2 hw)
    · have hw := hw.2 hc5
      refine r_aload_n C rfl 2 rfl dX1_readReign_43 (r_iload_n C rfl 3 rfl dX1_readReign_44 (r_iload_n C rfl 0 rfl dX1_readReign_45 ?_))
      obtain ⟨hq6, hw⟩ := hw
      obtain ⟨k9, k10, hp11, hp12, hw⟩ := hw
      refine r_callV (ci := 1) (rest := [.ref x0]) (As := [.int x2, .int s0]) C sg_X2_reign rfl rfl q804 q805 q806 q78 q807 rfl (Nat.le_of_ble_eq_true rfl) dX1_readReign_46 rfl hq6 hp11 hp12 (c_X2_reign G l k9 k10 x1 x2 s0 h4 _ hw) (k_I (fun r7 h8 hw => ?_))
      have hJ : V h8 (c + k9) (n + k10) 57 [(3, .int s0)] [.int (bI (if r7 < 0 then false else true)), .ref x0] := by
        exact r_sub C [0] rfl (b_X1_readReign_57 C _ _ _ _ _ _ hp11 hp12 hw)
      refine r_if_lt (tgt := 56) C (by decide) dX1_readReign_49 (fun hc13 => ?_) (fun hc13 => ?_)
      · have hJ14 := hJ
        try simp only [if_pos hc13] at hJ14
        refine r_iconst (v := (0 : Int32)) C (by decide) dX1_readReign_56 ?_
        exact r_sub C [0] rfl hJ14
      · have hJ14 := hJ
        try simp only [if_neg hc13] at hJ14
        refine r_iconst (v := (1 : Int32)) C (by decide) dX1_readReign_52 (r_goto (tgt := 57) C (by decide) dX1_readReign_53 ?_)
        exact r_sub C [0] rfl hJ14
theorem sg_X1_readReign : ySg yX1_readReign 1 = true := by decide +kernel
theorem c_X1_readReign (G : gT) (l : Launch) (mc ms : Nat) (a0 : Nat) (a1 : Nat) (h : Hp) (Q : Bool → Hp → Prop) (hw : w_X1_readReign mc ms a0 a1 h Q) : Ct G l yX1_readReign (ws_ yX1_readReign cX1_readReign 4 (some .boolean)) 8 213 mc ms [.ref a0, .ref a1] h (pZ Q) := by
  refine Ct.of (own := RX1) false (by decide +kernel) rfl (show (_ : Nat) ≤ _ from Nat.le_of_ble_eq_true rfl) (fun z => by cases z) (fun V C => ?_)
  show V h 0 0 0 [(0, .ref a0), (1, .ref a1)] []
  unfold w_X1_readReign at hw
  refine r_aload_n C rfl 0 rfl dX1_readReign_0 (r_iconst (v := (4 : Int32)) C (by decide) dX1_readReign_1 (r_sipush (v := (1000 : Int32)) C (by decide) dX1_readReign_2 (r_sipush (v := (1999 : Int32)) C (by decide) dX1_readReign_5 ?_)))
  obtain ⟨hq20, hw⟩ := hw
  refine r_callV (ci := 0) (rest := []) (As := [.int (4 : Int32), .int (1000 : Int32), .int (1999 : Int32)]) C sg_X1_number rfl rfl q394 q396 qs8 q77 q397 rfl (Nat.le_of_ble_eq_true rfl) dX1_readReign_8 rfl hq20 (Nat.zero_le _) (Nat.zero_le _) (c_X1_number G l a0 (4 : Int32) (1000 : Int32) (1999 : Int32) h _ hw) (k_I (fun r21 h22 hw => ?_))
  refine r_istore_n (L' := [(2, .int r21), (0, .ref a0), (1, .ref a1)]) C rfl (by decide) rfl dX1_readReign_11 (r_iload_n C rfl 0 rfl dX1_readReign_12 (r_iconst (v := (-1 : Int32)) C (by decide) dX1_readReign_13 ?_))
  refine r_icmp_ne (tgt := 21) C (by decide) dX1_readReign_14 (fun hc23 => ?_) (fun hc23 => ?_)
  · have hw := hw.1 hc23
    refine r_aload_n C rfl 1 rfl dX1_readReign_21 (r_iconst (v := (1 : Int32)) C (by decide) dX1_readReign_22 (r_bipush (v := (7 : Int32)) C (by decide) dX1_readReign_23 ?_))
    obtain ⟨hq24, hw⟩ := hw
    refine r_callV (ci := 0) (rest := []) (As := [.int (1 : Int32), .int (7 : Int32)]) C sg_X1_ascending rfl rfl q402 q404 qs9 q77 q405 rfl (Nat.le_of_ble_eq_true rfl) dX1_readReign_25 rfl hq24 (Nat.zero_le _) (Nat.zero_le _) (c_X1_ascending G l a0 (1 : Int32) (7 : Int32) h22 _ hw) (k_I (fun r25 h26 hw => ?_))
    exact r_sub C [1, 2, 0] rfl (b_X1_readReign_28 C _ _ _ _ _ _ _ (Nat.zero_le _) (Nat.zero_le _) hw)
  · have hw := hw.2 hc23
    refine r_iconst (v := (-1 : Int32)) C (by decide) dX1_readReign_17 (r_goto (tgt := 28) C (by decide) dX1_readReign_18 ?_)
    exact r_sub C [1, 2, 0] rfl (b_X1_readReign_28 C _ _ _ _ _ _ _ (Nat.zero_le _) (Nat.zero_le _) hw)
def w_X1_isYear (i0 : Int32) (h : Hp) (Q : Bool → Hp → Prop) : Prop :=
  w_X1_isIn i0.toInt64 (1000 : Int64) (1999 : Int64) h (fun r1 h2 => Q r1 h2)
theorem sg_X1_isYear : ySg yX1_isYear 1 = true := by decide +kernel
theorem c_X1_isYear (G : gT) (l : Launch) (i0 : Int32) (h : Hp) (Q : Bool → Hp → Prop) (hw : w_X1_isYear i0 h Q) : Ct G l yX1_isYear (ws_ yX1_isYear cX1_isYear 1 (some .boolean)) 2 37 0 0 [.int i0] h (pZ Q) := by
  refine Ct.of (own := RX1) false (by decide +kernel) rfl (show (_ : Nat) ≤ _ from Nat.le_of_ble_eq_true rfl) (fun z => by cases z) (fun V C => ?_)
  show V h 0 0 0 [(0, .int i0)] []
  unfold w_X1_isYear at hw
  refine r_iload_n C rfl 0 rfl dX1_isYear_0 (r_i2l C dX1_isYear_1 (r_ldc2 (v := (1000 : Int64)) C q839 dX1_isYear_2 (r_ldc2 (v := (1999 : Int64)) C q840 dX1_isYear_5 ?_)))
  refine r_callS (rest := []) (As := [.long i0.toInt64, .long (1000 : Int64), .long (1999 : Int64)]) C sg_X1_isIn q399 q400 q77 q401 rfl (Nat.le_of_ble_eq_true rfl) dX1_isYear_8 rfl (Nat.le_refl _) (Nat.le_refl _) (c_X1_isIn G l i0.toInt64 (1000 : Int64) (1999 : Int64) h _ hw) (k_Z (fun r1 h2 hw => ?_))
  exact r_zreturn (x := r1) C dX1_isYear_11 (Nat.le_refl _) (Nat.le_refl _) ⟨_, rfl, hw⟩
def w_X1_isDie (i0 : Int32) (i1 : Int32) (i2 : Int32) (h : Hp) (Q : Bool → Hp → Prop) : Prop :=
  w_X1_isIn i0.toInt64 (0 : Int64) (5 : Int64) h (fun r1 h2 => (r1 = false → Q false h2) ∧ (r1 = true → w_X1_isYear i1 h2 (fun r4 h5 => (r4 = false → Q false h5) ∧ (r4 = true → w_X1_isIn i2.toInt64 i1.toInt64 (1999 : Int64) h5 (fun r7 h8 => Q (if r7 = false then false else true) h8)))))
theorem sg_X1_isDie : ySg yX1_isDie 3 = true := by decide +kernel
theorem c_X1_isDie (G : gT) (l : Launch) (i0 : Int32) (i1 : Int32) (i2 : Int32) (h : Hp) (Q : Bool → Hp → Prop) (hw : w_X1_isDie i0 i1 i2 h Q) : Ct G l yX1_isDie (ws_ yX1_isDie cX1_isDie 3 (some .boolean)) 3 57 0 0 [.int i0, .int i1, .int i2] h (pZ Q) := by
  refine Ct.of (own := RX1) false (by decide +kernel) rfl (show (_ : Nat) ≤ _ from Nat.le_of_ble_eq_true rfl) (fun z => by cases z) (fun V C => ?_)
  show V h 0 0 0 [(0, .int i0), (1, .int i1), (2, .int i2)] []
  unfold w_X1_isDie at hw
  refine r_iload_n C rfl 0 rfl dX1_isDie_0 (r_i2l C dX1_isDie_1 (r_lconst (v := (0 : Int64)) C (by decide) dX1_isDie_2 (r_ldc2 (v := (5 : Int64)) C q835 dX1_isDie_3 ?_)))
  refine r_callS (rest := []) (As := [.long i0.toInt64, .long (0 : Int64), .long (5 : Int64)]) C sg_X1_isIn q399 q400 q77 q401 rfl (Nat.le_of_ble_eq_true rfl) dX1_isDie_6 rfl (Nat.le_refl _) (Nat.le_refl _) (c_X1_isIn G l i0.toInt64 (0 : Int64) (5 : Int64) h _ hw) (k_Z (fun r1 h2 hw => ?_))
  refine r_if_eq_b (tgt := 36) C (by decide) dX1_isDie_9 (fun hc3 => ?_) (fun hc3 => ?_)
  · have hw := hw.1 hc3
    refine r_iconst (v := (0 : Int32)) C (by decide) dX1_isDie_36 ?_
    exact r_zreturn (x := false) C dX1_isDie_37 (Nat.le_refl _) (Nat.le_refl _) ⟨_, rfl, hw⟩
  · have hw := hw.2 hc3
    refine r_iload_n C rfl 1 rfl dX1_isDie_12 ?_
    refine r_callS (rest := []) (As := [.int i1]) C sg_X1_isYear q836 q837 q77 q838 rfl (Nat.le_of_ble_eq_true rfl) dX1_isDie_13 rfl (Nat.le_refl _) (Nat.le_refl _) (c_X1_isYear G l i1 h2 _ hw) (k_Z (fun r4 h5 hw => ?_))
    refine r_if_eq_b (tgt := 36) C (by decide) dX1_isDie_16 (fun hc6 => ?_) (fun hc6 => ?_)
    · have hw := hw.1 hc6
      refine r_iconst (v := (0 : Int32)) C (by decide) dX1_isDie_36 ?_
      exact r_zreturn (x := false) C dX1_isDie_37 (Nat.le_refl _) (Nat.le_refl _) ⟨_, rfl, hw⟩
    · have hw := hw.2 hc6
      refine r_iload_n C rfl 2 rfl dX1_isDie_19 (r_i2l C dX1_isDie_20 (r_iload_n C rfl 1 rfl dX1_isDie_21 (r_i2l C dX1_isDie_22 (r_ldc2 (v := (1999 : Int64)) C q840 dX1_isDie_23 ?_))))
      refine r_callS (rest := []) (As := [.long i2.toInt64, .long i1.toInt64, .long (1999 : Int64)]) C sg_X1_isIn q399 q400 q77 q401 rfl (Nat.le_of_ble_eq_true rfl) dX1_isDie_26 rfl (Nat.le_refl _) (Nat.le_refl _) (c_X1_isIn G l i2.toInt64 i1.toInt64 (1999 : Int64) h5 _ hw) (k_Z (fun r7 h8 hw => ?_))
      have hJ : V h8 0 0 37 [] [.int (bI (if r7 = false then false else true))] := by
        exact r_zreturn (x := (if r7 = false then false else true)) C dX1_isDie_37 (Nat.le_refl _) (Nat.le_refl _) ⟨_, rfl, hw⟩
      refine r_if_eq_b (tgt := 36) C (by decide) dX1_isDie_29 (fun hc9 => ?_) (fun hc9 => ?_)
      · have hJ10 := hJ
        try simp only [if_pos hc9] at hJ10
        refine r_iconst (v := (0 : Int32)) C (by decide) dX1_isDie_36 ?_
        exact r_sub C [] rfl hJ10
      · have hJ10 := hJ
        try simp only [if_neg (show ¬ r7 = false from by rw [hc9]; decide)] at hJ10
        refine r_iconst (v := (1 : Int32)) C (by decide) dX1_isDie_32 (r_goto (tgt := 37) C (by decide) dX1_isDie_33 ?_)
        exact r_sub C [] rfl hJ10
def B_X1_readDie_110 (mc ms : Nat) (Q : Bool → Hp → Prop) (h : Hp) (c : Nat) (n : Nat) (x4 : Int32) : Prop :=
  Q (if x4 = (-1 : Int32) then false else true) h
def B_X1_readDie_107 (mc ms : Nat) (Q : Bool → Hp → Prop) (h : Hp) (c : Nat) (n : Nat) (x4 : Int32) (s0 : Nat) (s1 : Bool) : Prop :=
  hasC h s0 0 ∧ (w_X1_done s0 s1 h (fun h30 => B_X1_readDie_110 mc ms Q h30 c n x4))
def B_X1_readDie_106 (mc ms : Nat) (Q : Bool → Hp → Prop) (h : Hp) (c : Nat) (n : Nat) (x4 : Int32) (s0 : Nat) : Prop :=
  B_X1_readDie_107 mc ms Q h c n x4 s0 false
def B_X1_readDie_58 (mc ms : Nat) (Q : Bool → Hp → Prop) (h : Hp) (c : Nat) (n : Nat) (x0 : Nat) (x1 : Nat) (x2 : Int32) (x3 : Int32) (s0 : Int32) : Prop :=
  (s0 = (-1 : Int32) → B_X1_readDie_110 mc ms Q h c n s0) ∧ (¬ s0 = (-1 : Int32) → w_X1_isDie x2 x3 s0 h (fun r10 h11 => (r10 = false → B_X1_readDie_106 mc ms Q h11 c n s0 x0) ∧ (r10 = true → gfR h11 x1 1 1 (fun v13 => nn v13 (fun y14 => hasC h11 y14 8 ∧ (wj_J2_size y14 h11 (fun r16 h17 => ((10 : Int32) ≤ r16 → B_X1_readDie_106 mc ms Q h17 c n s0 x0) ∧ (¬ (10 : Int32) ≤ r16 → hasC h17 x1 1 ∧ (∃ k22 k23 : Nat, c + k22 ≤ mc ∧ n + k23 ≤ ms ∧ (w_X2_die k22 k23 x1 x2 x3 s0 h17 (fun r20 h21 => B_X1_readDie_107 mc ms Q h21 (c + k22) (n + k23) s0 x0 (if r20 < 0 then false else true))))))))))))
def B_X1_readDie_57 (mc ms : Nat) (Q : Bool → Hp → Prop) (h : Hp) (c : Nat) (n : Nat) (x0 : Nat) (x1 : Nat) (x2 : Int32) (x3 : Int32) : Prop :=
  B_X1_readDie_58 mc ms Q h c n x0 x1 x2 x3 (-1 : Int32)
def B_X1_readDie_28 (mc ms : Nat) (Q : Bool → Hp → Prop) (h : Hp) (c : Nat) (n : Nat) (x0 : Nat) (x1 : Nat) (x2 : Int32) (s0 : Int32) : Prop :=
  (s0 = (-1 : Int32) → B_X1_readDie_57 mc ms Q h c n x0 x1 x2 s0) ∧ (¬ s0 = (-1 : Int32) → hasC h x0 0 ∧ (w_X1_passes x0 (45 : Int32) h (fun r3 h4 => (r3 = false → B_X1_readDie_57 mc ms Q h4 c n x0 x1 x2 s0) ∧ (r3 = true → hasC h4 x0 0 ∧ (w_X1_number x0 (4 : Int32) (1000 : Int32) (1999 : Int32) h4 (fun r7 h8 => B_X1_readDie_58 mc ms Q h8 c n x0 x1 x2 s0 r7))))))
def w_X1_readDie (mc ms : Nat) (a0 : Nat) (a1 : Nat) (h : Hp) (Q : Bool → Hp → Prop) : Prop :=
  hasC h a0 0 ∧ (w_X1_number a0 (1 : Int32) (0 : Int32) (5 : Int32) h (fun r34 h35 => (¬ r34 = (-1 : Int32) → hasC h35 a0 0 ∧ (w_X1_number a0 (4 : Int32) (1000 : Int32) (1999 : Int32) h35 (fun r38 h39 => B_X1_readDie_28 mc ms Q h39 0 0 a0 a1 r34 r38))) ∧ (r34 = (-1 : Int32) → B_X1_readDie_28 mc ms Q h35 0 0 a0 a1 r34 (-1 : Int32))))
theorem b_X1_readDie_110 {G : gT} {l : Launch} {V : Hp → Nat → Nat → Nat → List (Nat × Value) → List Value → Prop} {mc ms : Nat} {Q : Bool → Hp → Prop} (C : Cx G l V cX1_readDie 5 RX1 8 214 mc ms (pZ Q) none (some .boolean) [] false) (h : Hp) (c : Nat) (n : Nat) (x4 : Int32) (b1 : c ≤ mc) (b2 : n ≤ ms) (hw : B_X1_readDie_110 mc ms Q h c n x4) : V h c n 110 [(4, .int x4)] [] := by
  unfold B_X1_readDie_110 at hw
  refine r_iload C 0 rfl dX1_readDie_110 (r_iconst (v := (-1 : Int32)) C (by decide) dX1_readDie_112 ?_)
  have hJ : V h c n 121 [] [.int (bI (if x4 = (-1 : Int32) then false else true))] := by
    exact r_zreturn (x := (if x4 = (-1 : Int32) then false else true)) C dX1_readDie_121 b1 b2 ⟨_, rfl, hw⟩
  refine r_icmp_eq (tgt := 120) C (by decide) dX1_readDie_113 (fun hc31 => ?_) (fun hc31 => ?_)
  · have hJ32 := hJ
    try simp only [if_pos hc31] at hJ32
    refine r_iconst (v := (0 : Int32)) C (by decide) dX1_readDie_120 ?_
    exact r_sub C [] rfl hJ32
  · have hJ32 := hJ
    try simp only [if_neg hc31] at hJ32
    refine r_iconst (v := (1 : Int32)) C (by decide) dX1_readDie_116 (r_goto (tgt := 121) C (by decide) dX1_readDie_117 ?_)
    exact r_sub C [] rfl hJ32
theorem b_X1_readDie_107 {G : gT} {l : Launch} {V : Hp → Nat → Nat → Nat → List (Nat × Value) → List Value → Prop} {mc ms : Nat} {Q : Bool → Hp → Prop} (C : Cx G l V cX1_readDie 5 RX1 8 214 mc ms (pZ Q) none (some .boolean) [] false) (h : Hp) (c : Nat) (n : Nat) (x4 : Int32) (s0 : Nat) (s1 : Bool) (b1 : c ≤ mc) (b2 : n ≤ ms) (hw : B_X1_readDie_107 mc ms Q h c n x4 s0 s1) : V h c n 107 [(4, .int x4)] [.int (bI s1), .ref s0] := by
  unfold B_X1_readDie_107 at hw
  obtain ⟨hq28, hw⟩ := hw
  refine r_callV (ci := 0) (rest := []) (As := [.int (bI s1)]) C sg_X1_done rfl rfl q824 q826 qs14 q77 q827 rfl (Nat.le_of_ble_eq_true rfl) dX1_readDie_107 rfl hq28 b1 b2 (c_X1_done G l s0 s1 h _ hw) (k_V (fun h30 hw => ?_))
  exact r_sub C [0] rfl (b_X1_readDie_110 C _ _ _ _ b1 b2 hw)
theorem b_X1_readDie_106 {G : gT} {l : Launch} {V : Hp → Nat → Nat → Nat → List (Nat × Value) → List Value → Prop} {mc ms : Nat} {Q : Bool → Hp → Prop} (C : Cx G l V cX1_readDie 5 RX1 8 214 mc ms (pZ Q) none (some .boolean) [] false) (h : Hp) (c : Nat) (n : Nat) (x4 : Int32) (s0 : Nat) (b1 : c ≤ mc) (b2 : n ≤ ms) (hw : B_X1_readDie_106 mc ms Q h c n x4 s0) : V h c n 106 [(4, .int x4)] [.ref s0] := by
  unfold B_X1_readDie_106 at hw
  refine r_iconst (v := (0 : Int32)) C (by decide) dX1_readDie_106 ?_
  exact r_sub C [0] rfl (b_X1_readDie_107 C _ _ _ _ _ _ b1 b2 hw)
theorem b_X1_readDie_58 {G : gT} {l : Launch} {V : Hp → Nat → Nat → Nat → List (Nat × Value) → List Value → Prop} {mc ms : Nat} {Q : Bool → Hp → Prop} (C : Cx G l V cX1_readDie 5 RX1 8 214 mc ms (pZ Q) none (some .boolean) [] false) (h : Hp) (c : Nat) (n : Nat) (x0 : Nat) (x1 : Nat) (x2 : Int32) (x3 : Int32) (s0 : Int32) (b1 : c ≤ mc) (b2 : n ≤ ms) (hw : B_X1_readDie_58 mc ms Q h c n x0 x1 x2 x3 s0) : V h c n 58 [(0, .ref x0), (1, .ref x1), (2, .int x2), (3, .int x3)] [.int s0] := by
  unfold B_X1_readDie_58 at hw
  refine r_istore (L' := [(4, .int s0), (0, .ref x0), (1, .ref x1), (2, .int x2), (3, .int x3)]) C (by decide) rfl dX1_readDie_58 (r_iload C 0 rfl dX1_readDie_60 (r_iconst (v := (-1 : Int32)) C (by decide) dX1_readDie_62 ?_))
  refine r_icmp_eq (tgt := 110) C (by decide) dX1_readDie_63 (fun hc9 => ?_) (fun hc9 => ?_)
  · have hw := hw.1 hc9
    exact r_sub C [0] rfl (b_X1_readDie_110 C _ _ _ _ b1 b2 hw)
  · have hw := hw.2 hc9
    refine r_aload_n C rfl 1 rfl dX1_readDie_66 (r_iload_n C rfl 3 rfl dX1_readDie_67 (r_iload_n C rfl 4 rfl dX1_readDie_68 (r_iload C 0 rfl dX1_readDie_69 ?_)))
    refine r_callS (rest := [.ref x0]) (As := [.int x2, .int x3, .int s0]) C sg_X1_isDie q832 q833 q77 q834 rfl (Nat.le_of_ble_eq_true rfl) dX1_readDie_71 rfl b1 b2 (c_X1_isDie G l x2 x3 s0 h _ hw) (k_Z (fun r10 h11 hw => ?_))
    refine r_if_eq_b (tgt := 106) C (by decide) dX1_readDie_74 (fun hc12 => ?_) (fun hc12 => ?_)
    · have hw := hw.1 hc12
      exact r_sub C [0] rfl (b_X1_readDie_106 C _ _ _ _ _ b1 b2 hw)
    · have hw := hw.2 hc12
      refine r_aload_n C rfl 2 rfl dX1_readDie_77 ?_
      refine r_gfR (k := 1) C kX2 (by decide) (Or.inr ⟨_, (List.mem_of_getElem? (i := 4) rfl)⟩) (Or.inl rfl) dX1_readDie_78 hw (fun v13 hw => ?_)
      obtain ⟨y14, rfl, hw_y14⟩ := hw
      have hw := hw_y14
      obtain ⟨hq15, hw⟩ := hw
      refine r_callF (ci := 8) (rest := [.ref x0]) (As := []) C (x := ⟨"java/util/List", "size", "()I"⟩) (show ySg ⟨"java/util/List", "size", "()I"⟩ 0 = true by decide +kernel) rfl q842 q414 q416 q81 q418 (List.mem_of_getElem? (i := 2) rfl) rfl (Nat.le_of_ble_eq_true rfl) dX1_readDie_81 rfl hq15 b1 b2 (cj_J2_size G l y14 h11 _ hw) (k_I (fun r16 h17 hw => ?_))
      refine r_bipush (v := (10 : Int32)) C (by decide) dX1_readDie_86 ?_
      refine r_icmp_ge (tgt := 106) C (by decide) dX1_readDie_88 (fun hc18 => ?_) (fun hc18 => ?_)
      · have hw := hw.1 hc18
        exact r_sub C [0] rfl (b_X1_readDie_106 C _ _ _ _ _ b1 b2 hw)
      · have hw := hw.2 hc18
        refine r_aload_n C rfl 2 rfl dX1_readDie_91 (r_iload_n C rfl 3 rfl dX1_readDie_92 (r_iload_n C rfl 4 rfl dX1_readDie_93 (r_iload C 0 rfl dX1_readDie_94 ?_)))
        obtain ⟨hq19, hw⟩ := hw
        obtain ⟨k22, k23, hp24, hp25, hw⟩ := hw
        refine r_callV (ci := 1) (rest := [.ref x0]) (As := [.int x2, .int x3, .int s0]) C sg_X2_die rfl rfl q843 q844 q845 q78 q846 rfl (Nat.le_of_ble_eq_true rfl) dX1_readDie_96 rfl hq19 hp24 hp25 (c_X2_die G l k22 k23 x1 x2 x3 s0 h17 _ hw) (k_I (fun r20 h21 hw => ?_))
        have hJ : V h21 (c + k22) (n + k23) 107 [(4, .int s0)] [.int (bI (if r20 < 0 then false else true)), .ref x0] := by
          exact r_sub C [0] rfl (b_X1_readDie_107 C _ _ _ _ _ _ hp24 hp25 hw)
        refine r_if_lt (tgt := 106) C (by decide) dX1_readDie_99 (fun hc26 => ?_) (fun hc26 => ?_)
        · have hJ27 := hJ
          try simp only [if_pos hc26] at hJ27
          refine r_iconst (v := (0 : Int32)) C (by decide) dX1_readDie_106 ?_
          exact r_sub C [0] rfl hJ27
        · have hJ27 := hJ
          try simp only [if_neg hc26] at hJ27
          refine r_iconst (v := (1 : Int32)) C (by decide) dX1_readDie_102 (r_goto (tgt := 107) C (by decide) dX1_readDie_103 ?_)
          exact r_sub C [0] rfl hJ27
theorem b_X1_readDie_57 {G : gT} {l : Launch} {V : Hp → Nat → Nat → Nat → List (Nat × Value) → List Value → Prop} {mc ms : Nat} {Q : Bool → Hp → Prop} (C : Cx G l V cX1_readDie 5 RX1 8 214 mc ms (pZ Q) none (some .boolean) [] false) (h : Hp) (c : Nat) (n : Nat) (x0 : Nat) (x1 : Nat) (x2 : Int32) (x3 : Int32) (b1 : c ≤ mc) (b2 : n ≤ ms) (hw : B_X1_readDie_57 mc ms Q h c n x0 x1 x2 x3) : V h c n 57 [(0, .ref x0), (1, .ref x1), (2, .int x2), (3, .int x3)] [] := by
  unfold B_X1_readDie_57 at hw
  refine r_iconst (v := (-1 : Int32)) C (by decide) dX1_readDie_57 ?_
  exact r_sub C [0, 1, 2, 3] rfl (b_X1_readDie_58 C _ _ _ _ _ _ _ _ b1 b2 hw)
theorem b_X1_readDie_28 {G : gT} {l : Launch} {V : Hp → Nat → Nat → Nat → List (Nat × Value) → List Value → Prop} {mc ms : Nat} {Q : Bool → Hp → Prop} (C : Cx G l V cX1_readDie 5 RX1 8 214 mc ms (pZ Q) none (some .boolean) [] false) (h : Hp) (c : Nat) (n : Nat) (x0 : Nat) (x1 : Nat) (x2 : Int32) (s0 : Int32) (b1 : c ≤ mc) (b2 : n ≤ ms) (hw : B_X1_readDie_28 mc ms Q h c n x0 x1 x2 s0) : V h c n 28 [(0, .ref x0), (1, .ref x1), (2, .int x2)] [.int s0] := by
  unfold B_X1_readDie_28 at hw
  refine r_istore_n (L' := [(3, .int s0), (0, .ref x0), (1, .ref x1), (2, .int x2)]) C rfl (by decide) rfl dX1_readDie_28 (r_iload_n C rfl 0 rfl dX1_readDie_29 (r_iconst (v := (-1 : Int32)) C (by decide) dX1_readDie_30 ?_))
  refine r_icmp_eq (tgt := 57) C (by decide) dX1_readDie_31 (fun hc1 => ?_) (fun hc1 => ?_)
  · have hw := hw.1 hc1
    exact r_sub C [1, 2, 3, 0] rfl (b_X1_readDie_57 C _ _ _ _ _ _ _ b1 b2 hw)
  · have hw := hw.2 hc1
    refine r_aload_n C rfl 1 rfl dX1_readDie_34 (r_bipush (v := (45 : Int32)) C (by decide) dX1_readDie_35 ?_)
    obtain ⟨hq2, hw⟩ := hw
    refine r_callV (ci := 0) (rest := []) (As := [.int (45 : Int32)]) C sg_X1_passes rfl rfl q382 q384 qs5 q77 q385 rfl (Nat.le_of_ble_eq_true rfl) dX1_readDie_37 rfl hq2 b1 b2 (c_X1_passes G l x0 (45 : Int32) h _ hw) (k_Z (fun r3 h4 hw => ?_))
    refine r_if_eq_b (tgt := 57) C (by decide) dX1_readDie_40 (fun hc5 => ?_) (fun hc5 => ?_)
    · have hw := hw.1 hc5
      exact r_sub C [1, 2, 3, 0] rfl (b_X1_readDie_57 C _ _ _ _ _ _ _ b1 b2 hw)
    · have hw := hw.2 hc5
      refine r_aload_n C rfl 1 rfl dX1_readDie_43 (r_iconst (v := (4 : Int32)) C (by decide) dX1_readDie_44 (r_sipush (v := (1000 : Int32)) C (by decide) dX1_readDie_45 (r_sipush (v := (1999 : Int32)) C (by decide) dX1_readDie_48 ?_)))
      obtain ⟨hq6, hw⟩ := hw
      refine r_callV (ci := 0) (rest := []) (As := [.int (4 : Int32), .int (1000 : Int32), .int (1999 : Int32)]) C sg_X1_number rfl rfl q394 q396 qs8 q77 q397 rfl (Nat.le_of_ble_eq_true rfl) dX1_readDie_51 rfl hq6 b1 b2 (c_X1_number G l x0 (4 : Int32) (1000 : Int32) (1999 : Int32) h4 _ hw) (k_I (fun r7 h8 hw => ?_))
      refine r_goto (tgt := 58) C (by decide) dX1_readDie_54 ?_
      exact r_sub C [1, 2, 3, 0] rfl (b_X1_readDie_58 C _ _ _ _ _ _ _ _ b1 b2 hw)
theorem sg_X1_readDie : ySg yX1_readDie 1 = true := by decide +kernel
theorem c_X1_readDie (G : gT) (l : Launch) (mc ms : Nat) (a0 : Nat) (a1 : Nat) (h : Hp) (Q : Bool → Hp → Prop) (hw : w_X1_readDie mc ms a0 a1 h Q) : Ct G l yX1_readDie (ws_ yX1_readDie cX1_readDie 5 (some .boolean)) 8 214 mc ms [.ref a0, .ref a1] h (pZ Q) := by
  refine Ct.of (own := RX1) false (by decide +kernel) rfl (show (_ : Nat) ≤ _ from Nat.le_of_ble_eq_true rfl) (fun z => by cases z) (fun V C => ?_)
  show V h 0 0 0 [(0, .ref a0), (1, .ref a1)] []
  unfold w_X1_readDie at hw
  refine r_aload_n C rfl 0 rfl dX1_readDie_0 (r_iconst (v := (1 : Int32)) C (by decide) dX1_readDie_1 (r_iconst (v := (0 : Int32)) C (by decide) dX1_readDie_2 (r_iconst (v := (5 : Int32)) C (by decide) dX1_readDie_3 ?_)))
  obtain ⟨hq33, hw⟩ := hw
  refine r_callV (ci := 0) (rest := []) (As := [.int (1 : Int32), .int (0 : Int32), .int (5 : Int32)]) C sg_X1_number rfl rfl q394 q396 qs8 q77 q397 rfl (Nat.le_of_ble_eq_true rfl) dX1_readDie_4 rfl hq33 (Nat.zero_le _) (Nat.zero_le _) (c_X1_number G l a0 (1 : Int32) (0 : Int32) (5 : Int32) h _ hw) (k_I (fun r34 h35 hw => ?_))
  refine r_istore_n (L' := [(2, .int r34), (0, .ref a0), (1, .ref a1)]) C rfl (by decide) rfl dX1_readDie_7 (r_iload_n C rfl 0 rfl dX1_readDie_8 (r_iconst (v := (-1 : Int32)) C (by decide) dX1_readDie_9 ?_))
  refine r_icmp_ne (tgt := 17) C (by decide) dX1_readDie_10 (fun hc36 => ?_) (fun hc36 => ?_)
  · have hw := hw.1 hc36
    refine r_aload_n C rfl 1 rfl dX1_readDie_17 (r_iconst (v := (4 : Int32)) C (by decide) dX1_readDie_18 (r_sipush (v := (1000 : Int32)) C (by decide) dX1_readDie_19 (r_sipush (v := (1999 : Int32)) C (by decide) dX1_readDie_22 ?_)))
    obtain ⟨hq37, hw⟩ := hw
    refine r_callV (ci := 0) (rest := []) (As := [.int (4 : Int32), .int (1000 : Int32), .int (1999 : Int32)]) C sg_X1_number rfl rfl q394 q396 qs8 q77 q397 rfl (Nat.le_of_ble_eq_true rfl) dX1_readDie_25 rfl hq37 (Nat.zero_le _) (Nat.zero_le _) (c_X1_number G l a0 (4 : Int32) (1000 : Int32) (1999 : Int32) h35 _ hw) (k_I (fun r38 h39 hw => ?_))
    exact r_sub C [1, 2, 0] rfl (b_X1_readDie_28 C _ _ _ _ _ _ _ (Nat.zero_le _) (Nat.zero_le _) hw)
  · have hw := hw.2 hc36
    refine r_iconst (v := (-1 : Int32)) C (by decide) dX1_readDie_13 (r_goto (tgt := 28) C (by decide) dX1_readDie_14 ?_)
    exact r_sub C [1, 2, 0] rfl (b_X1_readDie_28 C _ _ _ _ _ _ _ (Nat.zero_le _) (Nat.zero_le _) hw)
def B_X1_readCrack_81 (mc ms : Nat) (Q : Bool → Hp → Prop) (h : Hp) (c : Nat) (n : Nat) (x3 : Int32) : Prop :=
  Q (if x3 = (-1 : Int32) then false else true) h
def B_X1_readCrack_78 (mc ms : Nat) (Q : Bool → Hp → Prop) (h : Hp) (c : Nat) (n : Nat) (x3 : Int32) (s0 : Nat) (s1 : Bool) : Prop :=
  hasC h s0 0 ∧ (w_X1_done s0 s1 h (fun h33 => B_X1_readCrack_81 mc ms Q h33 c n x3))
def B_X1_readCrack_77 (mc ms : Nat) (Q : Bool → Hp → Prop) (h : Hp) (c : Nat) (n : Nat) (x3 : Int32) (s0 : Nat) : Prop :=
  B_X1_readCrack_78 mc ms Q h c n x3 s0 false
def B_X1_readCrack_29 (mc ms : Nat) (Q : Bool → Hp → Prop) (h : Hp) (c : Nat) (n : Nat) (x0 : Nat) (x1 : Nat) (x2 : Int32) (s0 : Int32) : Prop :=
  (s0 = (-1 : Int32) → B_X1_readCrack_81 mc ms Q h c n s0) ∧ (¬ s0 = (-1 : Int32) → hasC h x1 1 ∧ (w_X2_hasDie x1 x2 h (fun r3 h4 => (r3 = false → B_X1_readCrack_77 mc ms Q h4 c n s0 x0) ∧ (r3 = true → gfR h4 x1 1 1 (fun v6 => nn v6 (fun y7 => hasC h4 y7 8 ∧ (wj_J2_get y7 x2 h4 (fun r9 h10 => (∀ z11 : Nat, r9 = some z11 → hasC h10 z11 4) ∧ (nn r9 (fun y13 => hasC h10 y13 4 ∧ (∃ k17 k18 : Nat, c + k17 ≤ mc ∧ n + k18 ≤ ms ∧ (w_X5_canCrack k17 k18 y13 s0 h10 (fun r15 h16 => (r15 = false → B_X1_readCrack_77 mc ms Q h16 (c + k17) (n + k18) s0 x0) ∧ (r15 = true → hasC h16 x1 1 ∧ (∃ k25 k26 : Nat, (c + k17) + k25 ≤ mc ∧ (n + k18) + k26 ≤ ms ∧ (w_X2_crack k25 k26 x1 x2 s0 h16 (fun r23 h24 => B_X1_readCrack_78 mc ms Q h24 ((c + k17) + k25) ((n + k18) + k26) s0 x0 (if r23 < 0 then false else true))))))))))))))))))
def w_X1_readCrack (mc ms : Nat) (a0 : Nat) (a1 : Nat) (h : Hp) (Q : Bool → Hp → Prop) : Prop :=
  hasC h a0 0 ∧ (w_X1_number a0 (1 : Int32) (0 : Int32) (9 : Int32) h (fun r37 h38 => (¬ r37 = (-1 : Int32) → hasC h38 a0 0 ∧ (w_X1_number a0 (4 : Int32) (1000 : Int32) (1999 : Int32) h38 (fun r41 h42 => B_X1_readCrack_29 mc ms Q h42 0 0 a0 a1 r37 r41))) ∧ (r37 = (-1 : Int32) → B_X1_readCrack_29 mc ms Q h38 0 0 a0 a1 r37 (-1 : Int32))))
theorem b_X1_readCrack_81 {G : gT} {l : Launch} {V : Hp → Nat → Nat → Nat → List (Nat × Value) → List Value → Prop} {mc ms : Nat} {Q : Bool → Hp → Prop} (C : Cx G l V cX1_readCrack 4 RX1 8 213 mc ms (pZ Q) none (some .boolean) [] false) (h : Hp) (c : Nat) (n : Nat) (x3 : Int32) (b1 : c ≤ mc) (b2 : n ≤ ms) (hw : B_X1_readCrack_81 mc ms Q h c n x3) : V h c n 81 [(3, .int x3)] [] := by
  unfold B_X1_readCrack_81 at hw
  refine r_iload_n C rfl 0 rfl dX1_readCrack_81 (r_iconst (v := (-1 : Int32)) C (by decide) dX1_readCrack_82 ?_)
  have hJ : V h c n 91 [] [.int (bI (if x3 = (-1 : Int32) then false else true))] := by
    exact r_zreturn (x := (if x3 = (-1 : Int32) then false else true)) C dX1_readCrack_91 b1 b2 ⟨_, rfl, hw⟩
  refine r_icmp_eq (tgt := 90) C (by decide) dX1_readCrack_83 (fun hc34 => ?_) (fun hc34 => ?_)
  · have hJ35 := hJ
    try simp only [if_pos hc34] at hJ35
    refine r_iconst (v := (0 : Int32)) C (by decide) dX1_readCrack_90 ?_
    exact r_sub C [] rfl hJ35
  · have hJ35 := hJ
    try simp only [if_neg hc34] at hJ35
    refine r_iconst (v := (1 : Int32)) C (by decide) dX1_readCrack_86 (r_goto (tgt := 91) C (by decide) dX1_readCrack_87 ?_)
    exact r_sub C [] rfl hJ35
theorem b_X1_readCrack_78 {G : gT} {l : Launch} {V : Hp → Nat → Nat → Nat → List (Nat × Value) → List Value → Prop} {mc ms : Nat} {Q : Bool → Hp → Prop} (C : Cx G l V cX1_readCrack 4 RX1 8 213 mc ms (pZ Q) none (some .boolean) [] false) (h : Hp) (c : Nat) (n : Nat) (x3 : Int32) (s0 : Nat) (s1 : Bool) (b1 : c ≤ mc) (b2 : n ≤ ms) (hw : B_X1_readCrack_78 mc ms Q h c n x3 s0 s1) : V h c n 78 [(3, .int x3)] [.int (bI s1), .ref s0] := by
  unfold B_X1_readCrack_78 at hw
  obtain ⟨hq31, hw⟩ := hw
  refine r_callV (ci := 0) (rest := []) (As := [.int (bI s1)]) C sg_X1_done rfl rfl q824 q826 qs14 q77 q827 rfl (Nat.le_of_ble_eq_true rfl) dX1_readCrack_78 rfl hq31 b1 b2 (c_X1_done G l s0 s1 h _ hw) (k_V (fun h33 hw => ?_))
  exact r_sub C [0] rfl (b_X1_readCrack_81 C _ _ _ _ b1 b2 hw)
theorem b_X1_readCrack_77 {G : gT} {l : Launch} {V : Hp → Nat → Nat → Nat → List (Nat × Value) → List Value → Prop} {mc ms : Nat} {Q : Bool → Hp → Prop} (C : Cx G l V cX1_readCrack 4 RX1 8 213 mc ms (pZ Q) none (some .boolean) [] false) (h : Hp) (c : Nat) (n : Nat) (x3 : Int32) (s0 : Nat) (b1 : c ≤ mc) (b2 : n ≤ ms) (hw : B_X1_readCrack_77 mc ms Q h c n x3 s0) : V h c n 77 [(3, .int x3)] [.ref s0] := by
  unfold B_X1_readCrack_77 at hw
  refine r_iconst (v := (0 : Int32)) C (by decide) dX1_readCrack_77 ?_
  exact r_sub C [0] rfl (b_X1_readCrack_78 C _ _ _ _ _ _ b1 b2 hw)
theorem b_X1_readCrack_29 {G : gT} {l : Launch} {V : Hp → Nat → Nat → Nat → List (Nat × Value) → List Value → Prop} {mc ms : Nat} {Q : Bool → Hp → Prop} (C : Cx G l V cX1_readCrack 4 RX1 8 213 mc ms (pZ Q) none (some .boolean) [] false) (h : Hp) (c : Nat) (n : Nat) (x0 : Nat) (x1 : Nat) (x2 : Int32) (s0 : Int32) (b1 : c ≤ mc) (b2 : n ≤ ms) (hw : B_X1_readCrack_29 mc ms Q h c n x0 x1 x2 s0) : V h c n 29 [(0, .ref x0), (1, .ref x1), (2, .int x2)] [.int s0] := by
  unfold B_X1_readCrack_29 at hw
  refine r_istore_n (L' := [(3, .int s0), (0, .ref x0), (1, .ref x1), (2, .int x2)]) C rfl (by decide) rfl dX1_readCrack_29 (r_iload_n C rfl 0 rfl dX1_readCrack_30 (r_iconst (v := (-1 : Int32)) C (by decide) dX1_readCrack_31 ?_))
  refine r_icmp_eq (tgt := 81) C (by decide) dX1_readCrack_32 (fun hc1 => ?_) (fun hc1 => ?_)
  · have hw := hw.1 hc1
    exact r_sub C [0] rfl (b_X1_readCrack_81 C _ _ _ _ b1 b2 hw)
  · have hw := hw.2 hc1
    refine r_aload_n C rfl 1 rfl dX1_readCrack_35 (r_aload_n C rfl 2 rfl dX1_readCrack_36 (r_iload_n C rfl 3 rfl dX1_readCrack_37 ?_))
    obtain ⟨hq2, hw⟩ := hw
    refine r_callV (ci := 1) (rest := [.ref x0]) (As := [.int x2]) C sg_X2_hasDie rfl rfl q881 q882 q883 q78 q884 rfl (Nat.le_of_ble_eq_true rfl) dX1_readCrack_38 rfl hq2 b1 b2 (c_X2_hasDie G l x1 x2 h _ hw) (k_Z (fun r3 h4 hw => ?_))
    refine r_if_eq_b (tgt := 77) C (by decide) dX1_readCrack_41 (fun hc5 => ?_) (fun hc5 => ?_)
    · have hw := hw.1 hc5
      exact r_sub C [0] rfl (b_X1_readCrack_77 C _ _ _ _ _ b1 b2 hw)
    · have hw := hw.2 hc5
      refine r_aload_n C rfl 2 rfl dX1_readCrack_44 ?_
      refine r_gfR (k := 1) C kX2 (by decide) (Or.inr ⟨_, (List.mem_of_getElem? (i := 4) rfl)⟩) (Or.inl rfl) dX1_readCrack_45 hw (fun v6 hw => ?_)
      refine r_iload_n C rfl 3 rfl dX1_readCrack_48 ?_
      obtain ⟨y7, rfl, hw_y7⟩ := hw
      have hw := hw_y7
      obtain ⟨hq8, hw⟩ := hw
      refine r_callF (ci := 8) (rest := [.ref x0]) (As := [.int x2]) C (x := ⟨"java/util/List", "get", "(I)Ljava/lang/Object;"⟩) (show ySg ⟨"java/util/List", "get", "(I)Ljava/lang/Object;"⟩ 1 = true by decide +kernel) rfl q887 q453 q455 q81 q457 (List.mem_of_getElem? (i := 6) rfl) rfl (Nat.le_of_ble_eq_true rfl) dX1_readCrack_49 rfl hq8 b1 b2 (cj_J2_get G l y7 x2 h4 _ hw) (k_R (fun r9 h10 hw => ?_))
      obtain ⟨e12, hw⟩ := hw
      refine r_cast (x := r9) C (ci := 4) rfl q888 dX1_readCrack_54 e12 ?_
      refine r_iload_n C rfl 0 rfl dX1_readCrack_57 ?_
      obtain ⟨y13, rfl, hw_y13⟩ := hw
      have hw := hw_y13
      obtain ⟨hq14, hw⟩ := hw
      obtain ⟨k17, k18, hp19, hp20, hw⟩ := hw
      refine r_callV (ci := 4) (rest := [.ref x0]) (As := [.int s0]) C sg_X5_canCrack rfl rfl q889 q890 q891 q107 q892 rfl (Nat.le_of_ble_eq_true rfl) dX1_readCrack_58 rfl hq14 hp19 hp20 (c_X5_canCrack G l k17 k18 y13 s0 h10 _ hw) (k_Z (fun r15 h16 hw => ?_))
      refine r_if_eq_b (tgt := 77) C (by decide) dX1_readCrack_61 (fun hc21 => ?_) (fun hc21 => ?_)
      · have hw := hw.1 hc21
        exact r_sub C [0] rfl (b_X1_readCrack_77 C _ _ _ _ _ hp19 hp20 hw)
      · have hw := hw.2 hc21
        refine r_aload_n C rfl 2 rfl dX1_readCrack_64 (r_iload_n C rfl 3 rfl dX1_readCrack_65 (r_iload_n C rfl 0 rfl dX1_readCrack_66 ?_))
        obtain ⟨hq22, hw⟩ := hw
        obtain ⟨k25, k26, hp27, hp28, hw⟩ := hw
        refine r_callV (ci := 1) (rest := [.ref x0]) (As := [.int x2, .int s0]) C sg_X2_crack rfl rfl q974 q975 q976 q78 q977 rfl (Nat.le_of_ble_eq_true rfl) dX1_readCrack_67 rfl hq22 hp27 hp28 (c_X2_crack G l k25 k26 x1 x2 s0 h16 _ hw) (k_I (fun r23 h24 hw => ?_))
        have hJ : V h24 ((c + k17) + k25) ((n + k18) + k26) 78 [(3, .int s0)] [.int (bI (if r23 < 0 then false else true)), .ref x0] := by
          exact r_sub C [0] rfl (b_X1_readCrack_78 C _ _ _ _ _ _ hp27 hp28 hw)
        refine r_if_lt (tgt := 77) C (by decide) dX1_readCrack_70 (fun hc29 => ?_) (fun hc29 => ?_)
        · have hJ30 := hJ
          try simp only [if_pos hc29] at hJ30
          refine r_iconst (v := (0 : Int32)) C (by decide) dX1_readCrack_77 ?_
          exact r_sub C [0] rfl hJ30
        · have hJ30 := hJ
          try simp only [if_neg hc29] at hJ30
          refine r_iconst (v := (1 : Int32)) C (by decide) dX1_readCrack_73 (r_goto (tgt := 78) C (by decide) dX1_readCrack_74 ?_)
          exact r_sub C [0] rfl hJ30
theorem sg_X1_readCrack : ySg yX1_readCrack 1 = true := by decide +kernel
theorem c_X1_readCrack (G : gT) (l : Launch) (mc ms : Nat) (a0 : Nat) (a1 : Nat) (h : Hp) (Q : Bool → Hp → Prop) (hw : w_X1_readCrack mc ms a0 a1 h Q) : Ct G l yX1_readCrack (ws_ yX1_readCrack cX1_readCrack 4 (some .boolean)) 8 213 mc ms [.ref a0, .ref a1] h (pZ Q) := by
  refine Ct.of (own := RX1) false (by decide +kernel) rfl (show (_ : Nat) ≤ _ from Nat.le_of_ble_eq_true rfl) (fun z => by cases z) (fun V C => ?_)
  show V h 0 0 0 [(0, .ref a0), (1, .ref a1)] []
  unfold w_X1_readCrack at hw
  refine r_aload_n C rfl 0 rfl dX1_readCrack_0 (r_iconst (v := (1 : Int32)) C (by decide) dX1_readCrack_1 (r_iconst (v := (0 : Int32)) C (by decide) dX1_readCrack_2 (r_bipush (v := (9 : Int32)) C (by decide) dX1_readCrack_3 ?_)))
  obtain ⟨hq36, hw⟩ := hw
  refine r_callV (ci := 0) (rest := []) (As := [.int (1 : Int32), .int (0 : Int32), .int (9 : Int32)]) C sg_X1_number rfl rfl q394 q396 qs8 q77 q397 rfl (Nat.le_of_ble_eq_true rfl) dX1_readCrack_5 rfl hq36 (Nat.zero_le _) (Nat.zero_le _) (c_X1_number G l a0 (1 : Int32) (0 : Int32) (9 : Int32) h _ hw) (k_I (fun r37 h38 hw => ?_))
  refine r_istore_n (L' := [(2, .int r37), (0, .ref a0), (1, .ref a1)]) C rfl (by decide) rfl dX1_readCrack_8 (r_iload_n C rfl 0 rfl dX1_readCrack_9 (r_iconst (v := (-1 : Int32)) C (by decide) dX1_readCrack_10 ?_))
  refine r_icmp_ne (tgt := 18) C (by decide) dX1_readCrack_11 (fun hc39 => ?_) (fun hc39 => ?_)
  · have hw := hw.1 hc39
    refine r_aload_n C rfl 1 rfl dX1_readCrack_18 (r_iconst (v := (4 : Int32)) C (by decide) dX1_readCrack_19 (r_sipush (v := (1000 : Int32)) C (by decide) dX1_readCrack_20 (r_sipush (v := (1999 : Int32)) C (by decide) dX1_readCrack_23 ?_)))
    obtain ⟨hq40, hw⟩ := hw
    refine r_callV (ci := 0) (rest := []) (As := [.int (4 : Int32), .int (1000 : Int32), .int (1999 : Int32)]) C sg_X1_number rfl rfl q394 q396 qs8 q77 q397 rfl (Nat.le_of_ble_eq_true rfl) dX1_readCrack_26 rfl hq40 (Nat.zero_le _) (Nat.zero_le _) (c_X1_number G l a0 (4 : Int32) (1000 : Int32) (1999 : Int32) h38 _ hw) (k_I (fun r41 h42 hw => ?_))
    exact r_sub C [1, 2, 0] rfl (b_X1_readCrack_29 C _ _ _ _ _ _ _ (Nat.zero_le _) (Nat.zero_le _) hw)
  · have hw := hw.2 hc39
    refine r_iconst (v := (-1 : Int32)) C (by decide) dX1_readCrack_14 (r_goto (tgt := 29) C (by decide) dX1_readCrack_15 ?_)
    exact r_sub C [1, 2, 0] rfl (b_X1_readCrack_29 C _ _ _ _ _ _ _ (Nat.zero_le _) (Nat.zero_le _) hw)
def B_X1_readSeal_162 (mc ms : Nat) (Q : Bool → Hp → Prop) (h : Hp) (c : Nat) (n : Nat) (s0 : Nat) (s1 : Bool) : Prop :=
  hasC h s0 0 ∧ (w_X1_done s0 s1 h (fun h49 => Q true h49))
def B_X1_readSeal_161 (mc ms : Nat) (Q : Bool → Hp → Prop) (h : Hp) (c : Nat) (n : Nat) (s0 : Nat) : Prop :=
  B_X1_readSeal_162 mc ms Q h c n s0 false
def B_X1_readSeal_72 (mc ms : Nat) (Q : Bool → Hp → Prop) (h : Hp) (c : Nat) (n : Nat) (x0 : Nat) (x1 : Nat) (x2 : Int32) (x3 : Int32) (x5 : Int32) : Prop :=
  hasC h x0 0 ∧ (w_X1_number x0 (2 : Int32) (0 : Int32) (99 : Int32) h (fun r10 h11 => (¬ r10 = (-1 : Int32) → hasC h11 x0 0 ∧ (w_X1_ascending x0 (0 : Int32) (3 : Int32) h11 (fun r14 h15 => hasC h15 x1 1 ∧ (w_X2_hasDie x1 x3 h15 (fun r17 h18 => (r17 = false → B_X1_readSeal_161 mc ms Q h18 c n x0) ∧ (r17 = true → gfR h18 x1 1 1 (fun v20 => nn v20 (fun y21 => hasC h18 y21 8 ∧ (wj_J2_get y21 x3 h18 (fun r23 h24 => (∀ z25 : Nat, r23 = some z25 → hasC h24 z25 4) ∧ (nn r23 (fun y27 => hasC h24 y27 4 ∧ (w_X5_hasCracks y27 r14 h24 (fun r29 h30 => (r29 = false → B_X1_readSeal_161 mc ms Q h30 c n x0) ∧ (r29 = true → gfR h30 x1 1 2 (fun v32 => nn v32 (fun y33 => hasC h30 y33 8 ∧ (wj_J2_size y33 h30 (fun r35 h36 => ((24 : Int32) ≤ r35 → B_X1_readSeal_161 mc ms Q h36 c n x0) ∧ (¬ (24 : Int32) ≤ r35 → hasC h36 x1 1 ∧ (∃ k41 k42 : Nat, c + k41 ≤ mc ∧ n + k42 ≤ ms ∧ (w_X2_seal k41 k42 x1 x3 x2 x5 r10 r14 h36 (fun r39 h40 => B_X1_readSeal_162 mc ms Q h40 (c + k41) (n + k42) x0 (if r39 < 0 then false else true)))))))))))))))))))))))) ∧ (r10 = (-1 : Int32) → Q false h11)))
def B_X1_readSeal_52 (mc ms : Nat) (Q : Bool → Hp → Prop) (h : Hp) (c : Nat) (n : Nat) (x0 : Nat) (x1 : Nat) (x2 : Int32) (x3 : Int32) (x4 : Bool) (s0 : Int32) : Prop :=
  (x3 = (-1 : Int32) → Q false h) ∧ (¬ x3 = (-1 : Int32) → (x4 = true → B_X1_readSeal_72 mc ms Q h c n x0 x1 x2 x3 s0) ∧ (x4 = false → (¬ s0 = (-1 : Int32) → B_X1_readSeal_72 mc ms Q h c n x0 x1 x2 x3 s0) ∧ (s0 = (-1 : Int32) → Q false h)))
def B_X1_readSeal_40 (mc ms : Nat) (Q : Bool → Hp → Prop) (h : Hp) (c : Nat) (n : Nat) (x0 : Nat) (x1 : Nat) (x2 : Int32) (x3 : Int32) (x4 : Bool) : Prop :=
  B_X1_readSeal_52 mc ms Q h c n x0 x1 x2 x3 x4 (-1 : Int32)
def B_X1_readSeal_28 (mc ms : Nat) (Q : Bool → Hp → Prop) (h : Hp) (c : Nat) (n : Nat) (x0 : Nat) (x1 : Nat) (x2 : Int32) (x3 : Int32) (s0 : Bool) : Prop :=
  (x3 = (-1 : Int32) → B_X1_readSeal_40 mc ms Q h c n x0 x1 x2 x3 s0) ∧ (¬ x3 = (-1 : Int32) → (s0 = false → hasC h x0 0 ∧ (w_X1_number x0 (1 : Int32) (0 : Int32) (7 : Int32) h (fun r4 h5 => B_X1_readSeal_52 mc ms Q h5 c n x0 x1 x2 x3 s0 r4))) ∧ (s0 = true → B_X1_readSeal_40 mc ms Q h c n x0 x1 x2 x3 s0))
def w_X1_readSeal (mc ms : Nat) (a0 : Nat) (a1 : Nat) (i2 : Int32) (h : Hp) (Q : Bool → Hp → Prop) : Prop :=
  hasC h a0 0 ∧ (w_X1_number a0 (1 : Int32) (0 : Int32) (9 : Int32) h (fun r51 h52 => (r51 = (-1 : Int32) → B_X1_readSeal_28 mc ms Q h52 0 0 a0 a1 i2 r51 false) ∧ (¬ r51 = (-1 : Int32) → hasC h52 a0 0 ∧ (w_X1_passes a0 (46 : Int32) h52 (fun r55 h56 => B_X1_readSeal_28 mc ms Q h56 0 0 a0 a1 i2 r51 (if r55 = false then false else true))))))
theorem b_X1_readSeal_162 {G : gT} {l : Launch} {V : Hp → Nat → Nat → Nat → List (Nat × Value) → List Value → Prop} {mc ms : Nat} {Q : Bool → Hp → Prop} (C : Cx G l V cX1_readSeal 8 RX1 8 216 mc ms (pZ Q) none (some .boolean) [] false) (h : Hp) (c : Nat) (n : Nat) (s0 : Nat) (s1 : Bool) (b1 : c ≤ mc) (b2 : n ≤ ms) (hw : B_X1_readSeal_162 mc ms Q h c n s0 s1) : V h c n 162 [] [.int (bI s1), .ref s0] := by
  unfold B_X1_readSeal_162 at hw
  obtain ⟨hq47, hw⟩ := hw
  refine r_callV (ci := 0) (rest := []) (As := [.int (bI s1)]) C sg_X1_done rfl rfl q824 q826 qs14 q77 q827 rfl (Nat.le_of_ble_eq_true rfl) dX1_readSeal_162 rfl hq47 b1 b2 (c_X1_done G l s0 s1 h _ hw) (k_V (fun h49 hw => ?_))
  refine r_iconst (v := (1 : Int32)) C (by decide) dX1_readSeal_165 ?_
  exact r_zreturn (x := true) C dX1_readSeal_166 b1 b2 ⟨_, rfl, hw⟩
theorem b_X1_readSeal_161 {G : gT} {l : Launch} {V : Hp → Nat → Nat → Nat → List (Nat × Value) → List Value → Prop} {mc ms : Nat} {Q : Bool → Hp → Prop} (C : Cx G l V cX1_readSeal 8 RX1 8 216 mc ms (pZ Q) none (some .boolean) [] false) (h : Hp) (c : Nat) (n : Nat) (s0 : Nat) (b1 : c ≤ mc) (b2 : n ≤ ms) (hw : B_X1_readSeal_161 mc ms Q h c n s0) : V h c n 161 [] [.ref s0] := by
  unfold B_X1_readSeal_161 at hw
  refine r_iconst (v := (0 : Int32)) C (by decide) dX1_readSeal_161 ?_
  exact r_sub C [] rfl (b_X1_readSeal_162 C _ _ _ _ _ b1 b2 hw)
theorem b_X1_readSeal_72 {G : gT} {l : Launch} {V : Hp → Nat → Nat → Nat → List (Nat × Value) → List Value → Prop} {mc ms : Nat} {Q : Bool → Hp → Prop} (C : Cx G l V cX1_readSeal 8 RX1 8 216 mc ms (pZ Q) none (some .boolean) [] false) (h : Hp) (c : Nat) (n : Nat) (x0 : Nat) (x1 : Nat) (x2 : Int32) (x3 : Int32) (x5 : Int32) (b1 : c ≤ mc) (b2 : n ≤ ms) (hw : B_X1_readSeal_72 mc ms Q h c n x0 x1 x2 x3 x5) : V h c n 72 [(0, .ref x0), (1, .ref x1), (2, .int x2), (3, .int x3), (5, .int x5)] [] := by
  unfold B_X1_readSeal_72 at hw
  refine r_aload_n C rfl 0 rfl dX1_readSeal_72 (r_iconst (v := (2 : Int32)) C (by decide) dX1_readSeal_73 (r_iconst (v := (0 : Int32)) C (by decide) dX1_readSeal_74 (r_bipush (v := (99 : Int32)) C (by decide) dX1_readSeal_75 ?_)))
  obtain ⟨hq9, hw⟩ := hw
  refine r_callV (ci := 0) (rest := []) (As := [.int (2 : Int32), .int (0 : Int32), .int (99 : Int32)]) C sg_X1_number rfl rfl q394 q396 qs8 q77 q397 rfl (Nat.le_of_ble_eq_true rfl) dX1_readSeal_77 rfl hq9 b1 b2 (c_X1_number G l x0 (2 : Int32) (0 : Int32) (99 : Int32) h _ hw) (k_I (fun r10 h11 hw => ?_))
  refine r_istore (L' := [(6, .int r10), (0, .ref x0), (1, .ref x1), (2, .int x2), (3, .int x3), (5, .int x5)]) C (by decide) rfl dX1_readSeal_80 (r_iload C 0 rfl dX1_readSeal_82 (r_iconst (v := (-1 : Int32)) C (by decide) dX1_readSeal_84 ?_))
  refine r_icmp_ne (tgt := 90) C (by decide) dX1_readSeal_85 (fun hc12 => ?_) (fun hc12 => ?_)
  · have hw := hw.1 hc12
    refine r_aload_n C rfl 1 rfl dX1_readSeal_90 (r_iconst (v := (0 : Int32)) C (by decide) dX1_readSeal_91 (r_iconst (v := (3 : Int32)) C (by decide) dX1_readSeal_92 ?_))
    obtain ⟨hq13, hw⟩ := hw
    refine r_callV (ci := 0) (rest := []) (As := [.int (0 : Int32), .int (3 : Int32)]) C sg_X1_ascending rfl rfl q402 q404 qs9 q77 q405 rfl (Nat.le_of_ble_eq_true rfl) dX1_readSeal_93 rfl hq13 b1 b2 (c_X1_ascending G l x0 (0 : Int32) (3 : Int32) h11 _ hw) (k_I (fun r14 h15 hw => ?_))
    refine r_istore (L' := [(7, .int r14), (6, .int r10), (0, .ref x0), (1, .ref x1), (2, .int x2), (3, .int x3), (5, .int x5)]) C (by decide) rfl dX1_readSeal_96 (r_aload_n C rfl 2 rfl dX1_readSeal_98 (r_aload_n C rfl 3 rfl dX1_readSeal_99 (r_iload_n C rfl 5 rfl dX1_readSeal_100 ?_)))
    obtain ⟨hq16, hw⟩ := hw
    refine r_callV (ci := 1) (rest := [.ref x0]) (As := [.int x3]) C sg_X2_hasDie rfl rfl q881 q882 q883 q78 q884 rfl (Nat.le_of_ble_eq_true rfl) dX1_readSeal_101 rfl hq16 b1 b2 (c_X2_hasDie G l x1 x3 h15 _ hw) (k_Z (fun r17 h18 hw => ?_))
    refine r_if_eq_b (tgt := 161) C (by decide) dX1_readSeal_104 (fun hc19 => ?_) (fun hc19 => ?_)
    · have hw := hw.1 hc19
      exact r_sub C [] rfl (b_X1_readSeal_161 C _ _ _ _ b1 b2 hw)
    · have hw := hw.2 hc19
      refine r_aload_n C rfl 3 rfl dX1_readSeal_107 ?_
      refine r_gfR (k := 1) C kX2 (by decide) (Or.inr ⟨_, (List.mem_of_getElem? (i := 4) rfl)⟩) (Or.inl rfl) dX1_readSeal_108 hw (fun v20 hw => ?_)
      refine r_iload_n C rfl 5 rfl dX1_readSeal_111 ?_
      obtain ⟨y21, rfl, hw_y21⟩ := hw
      have hw := hw_y21
      obtain ⟨hq22, hw⟩ := hw
      refine r_callF (ci := 8) (rest := [.ref x0]) (As := [.int x3]) C (x := ⟨"java/util/List", "get", "(I)Ljava/lang/Object;"⟩) (show ySg ⟨"java/util/List", "get", "(I)Ljava/lang/Object;"⟩ 1 = true by decide +kernel) rfl q887 q453 q455 q81 q457 (List.mem_of_getElem? (i := 6) rfl) rfl (Nat.le_of_ble_eq_true rfl) dX1_readSeal_112 rfl hq22 b1 b2 (cj_J2_get G l y21 x3 h18 _ hw) (k_R (fun r23 h24 hw => ?_))
      obtain ⟨e26, hw⟩ := hw
      refine r_cast (x := r23) C (ci := 4) rfl q888 dX1_readSeal_117 e26 ?_
      refine r_iload C 0 rfl dX1_readSeal_120 ?_
      obtain ⟨y27, rfl, hw_y27⟩ := hw
      have hw := hw_y27
      obtain ⟨hq28, hw⟩ := hw
      refine r_callV (ci := 4) (rest := [.ref x0]) (As := [.int r14]) C sg_X5_hasCracks rfl rfl q983 q984 q985 q107 q986 rfl (Nat.le_of_ble_eq_true rfl) dX1_readSeal_122 rfl hq28 b1 b2 (c_X5_hasCracks G l y27 r14 h24 _ hw) (k_Z (fun r29 h30 hw => ?_))
      refine r_if_eq_b (tgt := 161) C (by decide) dX1_readSeal_125 (fun hc31 => ?_) (fun hc31 => ?_)
      · have hw := hw.1 hc31
        exact r_sub C [] rfl (b_X1_readSeal_161 C _ _ _ _ b1 b2 hw)
      · have hw := hw.2 hc31
        refine r_aload_n C rfl 3 rfl dX1_readSeal_128 ?_
        refine r_gfR (k := 2) C kX2 (by decide) (Or.inr ⟨_, (List.mem_of_getElem? (i := 5) rfl)⟩) (Or.inl rfl) dX1_readSeal_129 hw (fun v32 hw => ?_)
        obtain ⟨y33, rfl, hw_y33⟩ := hw
        have hw := hw_y33
        obtain ⟨hq34, hw⟩ := hw
        refine r_callF (ci := 8) (rest := [.ref x0]) (As := []) C (x := ⟨"java/util/List", "size", "()I"⟩) (show ySg ⟨"java/util/List", "size", "()I"⟩ 0 = true by decide +kernel) rfl q842 q414 q416 q81 q418 (List.mem_of_getElem? (i := 2) rfl) rfl (Nat.le_of_ble_eq_true rfl) dX1_readSeal_132 rfl hq34 b1 b2 (cj_J2_size G l y33 h30 _ hw) (k_I (fun r35 h36 hw => ?_))
        refine r_bipush (v := (24 : Int32)) C (by decide) dX1_readSeal_137 ?_
        refine r_icmp_ge (tgt := 161) C (by decide) dX1_readSeal_139 (fun hc37 => ?_) (fun hc37 => ?_)
        · have hw := hw.1 hc37
          exact r_sub C [] rfl (b_X1_readSeal_161 C _ _ _ _ b1 b2 hw)
        · have hw := hw.2 hc37
          refine r_aload_n C rfl 3 rfl dX1_readSeal_142 (r_iload_n C rfl 5 rfl dX1_readSeal_143 (r_iload_n C rfl 4 rfl dX1_readSeal_144 (r_iload C 6 rfl dX1_readSeal_145 (r_iload C 1 rfl dX1_readSeal_147 (r_iload C 0 rfl dX1_readSeal_149 ?_)))))
          obtain ⟨hq38, hw⟩ := hw
          obtain ⟨k41, k42, hp43, hp44, hw⟩ := hw
          refine r_callV (ci := 1) (rest := [.ref x0]) (As := [.int x3, .int x2, .int x5, .int r10, .int r14]) C sg_X2_seal rfl rfl q988 q989 q990 q78 q991 rfl (Nat.le_of_ble_eq_true rfl) dX1_readSeal_151 rfl hq38 hp43 hp44 (c_X2_seal G l k41 k42 x1 x3 x2 x5 r10 r14 h36 _ hw) (k_I (fun r39 h40 hw => ?_))
          have hJ : V h40 (c + k41) (n + k42) 162 [] [.int (bI (if r39 < 0 then false else true)), .ref x0] := by
            exact r_sub C [] rfl (b_X1_readSeal_162 C _ _ _ _ _ hp43 hp44 hw)
          refine r_if_lt (tgt := 161) C (by decide) dX1_readSeal_154 (fun hc45 => ?_) (fun hc45 => ?_)
          · have hJ46 := hJ
            try simp only [if_pos hc45] at hJ46
            refine r_iconst (v := (0 : Int32)) C (by decide) dX1_readSeal_161 ?_
            exact r_sub C [] rfl hJ46
          · have hJ46 := hJ
            try simp only [if_neg hc45] at hJ46
            refine r_iconst (v := (1 : Int32)) C (by decide) dX1_readSeal_157 (r_goto (tgt := 162) C (by decide) dX1_readSeal_158 ?_)
            exact r_sub C [] rfl hJ46
  · have hw := hw.2 hc12
    refine r_iconst (v := (0 : Int32)) C (by decide) dX1_readSeal_88 ?_
    exact r_zreturn (x := false) C dX1_readSeal_89 b1 b2 ⟨_, rfl, hw⟩
theorem b_X1_readSeal_52 {G : gT} {l : Launch} {V : Hp → Nat → Nat → Nat → List (Nat × Value) → List Value → Prop} {mc ms : Nat} {Q : Bool → Hp → Prop} (C : Cx G l V cX1_readSeal 8 RX1 8 216 mc ms (pZ Q) none (some .boolean) [] false) (h : Hp) (c : Nat) (n : Nat) (x0 : Nat) (x1 : Nat) (x2 : Int32) (x3 : Int32) (x4 : Bool) (s0 : Int32) (b1 : c ≤ mc) (b2 : n ≤ ms) (hw : B_X1_readSeal_52 mc ms Q h c n x0 x1 x2 x3 x4 s0) : V h c n 52 [(0, .ref x0), (1, .ref x1), (2, .int x2), (3, .int x3), (4, .int (bI x4))] [.int s0] := by
  unfold B_X1_readSeal_52 at hw
  refine r_istore (L' := [(5, .int s0), (0, .ref x0), (1, .ref x1), (2, .int x2), (3, .int x3), (4, .int (bI x4))]) C (by decide) rfl dX1_readSeal_52 (r_iload_n C rfl 4 rfl dX1_readSeal_54 (r_iconst (v := (-1 : Int32)) C (by decide) dX1_readSeal_55 ?_))
  refine r_icmp_eq (tgt := 70) C (by decide) dX1_readSeal_56 (fun hc6 => ?_) (fun hc6 => ?_)
  · have hw := hw.1 hc6
    refine r_iconst (v := (0 : Int32)) C (by decide) dX1_readSeal_70 ?_
    exact r_zreturn (x := false) C dX1_readSeal_71 b1 b2 ⟨_, rfl, hw⟩
  · have hw := hw.2 hc6
    refine r_iload C 5 rfl dX1_readSeal_59 ?_
    refine r_if_ne_b (tgt := 72) C (by decide) dX1_readSeal_61 (fun hc7 => ?_) (fun hc7 => ?_)
    · have hw := hw.1 hc7
      exact r_sub C [1, 2, 3, 4, 0] rfl (b_X1_readSeal_72 C _ _ _ _ _ _ _ _ b1 b2 hw)
    · have hw := hw.2 hc7
      refine r_iload C 0 rfl dX1_readSeal_64 (r_iconst (v := (-1 : Int32)) C (by decide) dX1_readSeal_66 ?_)
      refine r_icmp_ne (tgt := 72) C (by decide) dX1_readSeal_67 (fun hc8 => ?_) (fun hc8 => ?_)
      · have hw := hw.1 hc8
        exact r_sub C [1, 2, 3, 4, 0] rfl (b_X1_readSeal_72 C _ _ _ _ _ _ _ _ b1 b2 hw)
      · have hw := hw.2 hc8
        refine r_iconst (v := (0 : Int32)) C (by decide) dX1_readSeal_70 ?_
        exact r_zreturn (x := false) C dX1_readSeal_71 b1 b2 ⟨_, rfl, hw⟩
theorem b_X1_readSeal_40 {G : gT} {l : Launch} {V : Hp → Nat → Nat → Nat → List (Nat × Value) → List Value → Prop} {mc ms : Nat} {Q : Bool → Hp → Prop} (C : Cx G l V cX1_readSeal 8 RX1 8 216 mc ms (pZ Q) none (some .boolean) [] false) (h : Hp) (c : Nat) (n : Nat) (x0 : Nat) (x1 : Nat) (x2 : Int32) (x3 : Int32) (x4 : Bool) (b1 : c ≤ mc) (b2 : n ≤ ms) (hw : B_X1_readSeal_40 mc ms Q h c n x0 x1 x2 x3 x4) : V h c n 40 [(0, .ref x0), (1, .ref x1), (2, .int x2), (3, .int x3), (4, .int (bI x4))] [] := by
  unfold B_X1_readSeal_40 at hw
  refine r_iconst (v := (-1 : Int32)) C (by decide) dX1_readSeal_40 (r_goto (tgt := 52) C (by decide) dX1_readSeal_41 ?_)
  exact r_sub C [0, 1, 2, 3, 4] rfl (b_X1_readSeal_52 C _ _ _ _ _ _ _ _ _ b1 b2 hw)
theorem b_X1_readSeal_28 {G : gT} {l : Launch} {V : Hp → Nat → Nat → Nat → List (Nat × Value) → List Value → Prop} {mc ms : Nat} {Q : Bool → Hp → Prop} (C : Cx G l V cX1_readSeal 8 RX1 8 216 mc ms (pZ Q) none (some .boolean) [] false) (h : Hp) (c : Nat) (n : Nat) (x0 : Nat) (x1 : Nat) (x2 : Int32) (x3 : Int32) (s0 : Bool) (b1 : c ≤ mc) (b2 : n ≤ ms) (hw : B_X1_readSeal_28 mc ms Q h c n x0 x1 x2 x3 s0) : V h c n 28 [(0, .ref x0), (1, .ref x1), (2, .int x2), (3, .int x3)] [.int (bI s0)] := by
  unfold B_X1_readSeal_28 at hw
  refine r_istore (L' := [(4, .int (bI s0)), (0, .ref x0), (1, .ref x1), (2, .int x2), (3, .int x3)]) C (by decide) rfl dX1_readSeal_28 (r_iload_n C rfl 4 rfl dX1_readSeal_30 (r_iconst (v := (-1 : Int32)) C (by decide) dX1_readSeal_31 ?_))
  refine r_icmp_eq (tgt := 40) C (by decide) dX1_readSeal_32 (fun hc1 => ?_) (fun hc1 => ?_)
  · have hw := hw.1 hc1
    exact r_sub C [1, 2, 3, 4, 0] rfl (b_X1_readSeal_40 C _ _ _ _ _ _ _ _ b1 b2 hw)
  · have hw := hw.2 hc1
    refine r_iload C 0 rfl dX1_readSeal_35 ?_
    refine r_if_eq_b (tgt := 44) C (by decide) dX1_readSeal_37 (fun hc2 => ?_) (fun hc2 => ?_)
    · have hw := hw.1 hc2
      refine r_aload_n C rfl 1 rfl dX1_readSeal_44 (r_iconst (v := (1 : Int32)) C (by decide) dX1_readSeal_45 (r_iconst (v := (0 : Int32)) C (by decide) dX1_readSeal_46 (r_bipush (v := (7 : Int32)) C (by decide) dX1_readSeal_47 ?_)))
      obtain ⟨hq3, hw⟩ := hw
      refine r_callV (ci := 0) (rest := []) (As := [.int (1 : Int32), .int (0 : Int32), .int (7 : Int32)]) C sg_X1_number rfl rfl q394 q396 qs8 q77 q397 rfl (Nat.le_of_ble_eq_true rfl) dX1_readSeal_49 rfl hq3 b1 b2 (c_X1_number G l x0 (1 : Int32) (0 : Int32) (7 : Int32) h _ hw) (k_I (fun r4 h5 hw => ?_))
      exact r_sub C [1, 2, 3, 4, 0] rfl (b_X1_readSeal_52 C _ _ _ _ _ _ _ _ _ b1 b2 hw)
    · have hw := hw.2 hc2
      exact r_sub C [1, 2, 3, 4, 0] rfl (b_X1_readSeal_40 C _ _ _ _ _ _ _ _ b1 b2 hw)
theorem sg_X1_readSeal : ySg yX1_readSeal 2 = true := by decide +kernel
theorem c_X1_readSeal (G : gT) (l : Launch) (mc ms : Nat) (a0 : Nat) (a1 : Nat) (i2 : Int32) (h : Hp) (Q : Bool → Hp → Prop) (hw : w_X1_readSeal mc ms a0 a1 i2 h Q) : Ct G l yX1_readSeal (ws_ yX1_readSeal cX1_readSeal 8 (some .boolean)) 8 216 mc ms [.ref a0, .ref a1, .int i2] h (pZ Q) := by
  refine Ct.of (own := RX1) false (by decide +kernel) rfl (show (_ : Nat) ≤ _ from Nat.le_of_ble_eq_true rfl) (fun z => by cases z) (fun V C => ?_)
  show V h 0 0 0 [(0, .ref a0), (1, .ref a1), (2, .int i2)] []
  unfold w_X1_readSeal at hw
  refine r_aload_n C rfl 0 rfl dX1_readSeal_0 (r_iconst (v := (1 : Int32)) C (by decide) dX1_readSeal_1 (r_iconst (v := (0 : Int32)) C (by decide) dX1_readSeal_2 (r_bipush (v := (9 : Int32)) C (by decide) dX1_readSeal_3 ?_)))
  obtain ⟨hq50, hw⟩ := hw
  refine r_callV (ci := 0) (rest := []) (As := [.int (1 : Int32), .int (0 : Int32), .int (9 : Int32)]) C sg_X1_number rfl rfl q394 q396 qs8 q77 q397 rfl (Nat.le_of_ble_eq_true rfl) dX1_readSeal_5 rfl hq50 (Nat.zero_le _) (Nat.zero_le _) (c_X1_number G l a0 (1 : Int32) (0 : Int32) (9 : Int32) h _ hw) (k_I (fun r51 h52 hw => ?_))
  refine r_istore_n (L' := [(3, .int r51), (0, .ref a0), (1, .ref a1), (2, .int i2)]) C rfl (by decide) rfl dX1_readSeal_8 (r_iload_n C rfl 0 rfl dX1_readSeal_9 (r_iconst (v := (-1 : Int32)) C (by decide) dX1_readSeal_10 ?_))
  refine r_icmp_eq (tgt := 27) C (by decide) dX1_readSeal_11 (fun hc53 => ?_) (fun hc53 => ?_)
  · have hw := hw.1 hc53
    refine r_iconst (v := (0 : Int32)) C (by decide) dX1_readSeal_27 ?_
    exact r_sub C [1, 2, 3, 0] rfl (b_X1_readSeal_28 C _ _ _ _ _ _ _ _ (Nat.zero_le _) (Nat.zero_le _) hw)
  · have hw := hw.2 hc53
    refine r_aload_n C rfl 1 rfl dX1_readSeal_14 (r_bipush (v := (46 : Int32)) C (by decide) dX1_readSeal_15 ?_)
    obtain ⟨hq54, hw⟩ := hw
    refine r_callV (ci := 0) (rest := []) (As := [.int (46 : Int32)]) C sg_X1_passes rfl rfl q382 q384 qs5 q77 q385 rfl (Nat.le_of_ble_eq_true rfl) dX1_readSeal_17 rfl hq54 (Nat.zero_le _) (Nat.zero_le _) (c_X1_passes G l a0 (46 : Int32) h52 _ hw) (k_Z (fun r55 h56 hw => ?_))
    have hJ : V h56 0 0 28 [(3, .int r51), (0, .ref a0), (1, .ref a1), (2, .int i2)] [.int (bI (if r55 = false then false else true))] := by
      exact r_sub C [1, 2, 3, 0] rfl (b_X1_readSeal_28 C _ _ _ _ _ _ _ _ (Nat.zero_le _) (Nat.zero_le _) hw)
    refine r_if_eq_b (tgt := 27) C (by decide) dX1_readSeal_20 (fun hc57 => ?_) (fun hc57 => ?_)
    · have hJ58 := hJ
      try simp only [if_pos hc57] at hJ58
      refine r_iconst (v := (0 : Int32)) C (by decide) dX1_readSeal_27 ?_
      exact r_sub C [0, 1, 2, 3] rfl hJ58
    · have hJ58 := hJ
      try simp only [if_neg (show ¬ r55 = false from by rw [hc57]; decide)] at hJ58
      refine r_iconst (v := (1 : Int32)) C (by decide) dX1_readSeal_23 (r_goto (tgt := 28) C (by decide) dX1_readSeal_24 ?_)
      exact r_sub C [0, 1, 2, 3] rfl hJ58
def B_X1_readHang_57 (mc ms : Nat) (Q : Bool → Hp → Prop) (h : Hp) (c : Nat) (n : Nat) (x3 : Int32) : Prop :=
  Q (if x3 = (-1 : Int32) then false else true) h
def B_X1_readHang_54 (mc ms : Nat) (Q : Bool → Hp → Prop) (h : Hp) (c : Nat) (n : Nat) (x3 : Int32) (s0 : Nat) (s1 : Bool) : Prop :=
  hasC h s0 0 ∧ (w_X1_done s0 s1 h (fun h17 => B_X1_readHang_57 mc ms Q h17 c n x3))
def B_X1_readHang_25 (mc ms : Nat) (Q : Bool → Hp → Prop) (h : Hp) (c : Nat) (n : Nat) (x0 : Nat) (x1 : Nat) (x2 : Int32) (s0 : Int32) : Prop :=
  (s0 = (-1 : Int32) → B_X1_readHang_57 mc ms Q h c n s0) ∧ (¬ s0 = (-1 : Int32) → hasC h x1 1 ∧ (w_X2_hasSeal x1 x2 h (fun r3 h4 => (r3 = false → B_X1_readHang_54 mc ms Q h4 c n s0 x0 false) ∧ (r3 = true → hasC h4 x1 1 ∧ (∃ k9 k10 : Nat, c + k9 ≤ mc ∧ n + k10 ≤ ms ∧ (w_X2_hang k9 k10 x1 x2 s0 h4 (fun r7 h8 => B_X1_readHang_54 mc ms Q h8 (c + k9) (n + k10) s0 x0 (if r7 ≤ 0 then false else true))))))))
def w_X1_readHang (mc ms : Nat) (a0 : Nat) (a1 : Nat) (h : Hp) (Q : Bool → Hp → Prop) : Prop :=
  hasC h a0 0 ∧ (w_X1_number a0 (2 : Int32) (0 : Int32) (23 : Int32) h (fun r21 h22 => (¬ r21 = (-1 : Int32) → hasC h22 a0 0 ∧ (w_X1_number a0 (1 : Int32) (0 : Int32) (5 : Int32) h22 (fun r25 h26 => B_X1_readHang_25 mc ms Q h26 0 0 a0 a1 r21 r25))) ∧ (r21 = (-1 : Int32) → B_X1_readHang_25 mc ms Q h22 0 0 a0 a1 r21 (-1 : Int32))))
theorem b_X1_readHang_57 {G : gT} {l : Launch} {V : Hp → Nat → Nat → Nat → List (Nat × Value) → List Value → Prop} {mc ms : Nat} {Q : Bool → Hp → Prop} (C : Cx G l V cX1_readHang 4 RX1 5 103 mc ms (pZ Q) none (some .boolean) [] false) (h : Hp) (c : Nat) (n : Nat) (x3 : Int32) (b1 : c ≤ mc) (b2 : n ≤ ms) (hw : B_X1_readHang_57 mc ms Q h c n x3) : V h c n 57 [(3, .int x3)] [] := by
  unfold B_X1_readHang_57 at hw
  refine r_iload_n C rfl 0 rfl dX1_readHang_57 (r_iconst (v := (-1 : Int32)) C (by decide) dX1_readHang_58 ?_)
  have hJ : V h c n 67 [] [.int (bI (if x3 = (-1 : Int32) then false else true))] := by
    exact r_zreturn (x := (if x3 = (-1 : Int32) then false else true)) C dX1_readHang_67 b1 b2 ⟨_, rfl, hw⟩
  refine r_icmp_eq (tgt := 66) C (by decide) dX1_readHang_59 (fun hc18 => ?_) (fun hc18 => ?_)
  · have hJ19 := hJ
    try simp only [if_pos hc18] at hJ19
    refine r_iconst (v := (0 : Int32)) C (by decide) dX1_readHang_66 ?_
    exact r_sub C [] rfl hJ19
  · have hJ19 := hJ
    try simp only [if_neg hc18] at hJ19
    refine r_iconst (v := (1 : Int32)) C (by decide) dX1_readHang_62 (r_goto (tgt := 67) C (by decide) dX1_readHang_63 ?_)
    exact r_sub C [] rfl hJ19
theorem b_X1_readHang_54 {G : gT} {l : Launch} {V : Hp → Nat → Nat → Nat → List (Nat × Value) → List Value → Prop} {mc ms : Nat} {Q : Bool → Hp → Prop} (C : Cx G l V cX1_readHang 4 RX1 5 103 mc ms (pZ Q) none (some .boolean) [] false) (h : Hp) (c : Nat) (n : Nat) (x3 : Int32) (s0 : Nat) (s1 : Bool) (b1 : c ≤ mc) (b2 : n ≤ ms) (hw : B_X1_readHang_54 mc ms Q h c n x3 s0 s1) : V h c n 54 [(3, .int x3)] [.int (bI s1), .ref s0] := by
  unfold B_X1_readHang_54 at hw
  obtain ⟨hq15, hw⟩ := hw
  refine r_callV (ci := 0) (rest := []) (As := [.int (bI s1)]) C sg_X1_done rfl rfl q824 q826 qs14 q77 q827 rfl (Nat.le_of_ble_eq_true rfl) dX1_readHang_54 rfl hq15 b1 b2 (c_X1_done G l s0 s1 h _ hw) (k_V (fun h17 hw => ?_))
  exact r_sub C [0] rfl (b_X1_readHang_57 C _ _ _ _ b1 b2 hw)
theorem b_X1_readHang_25 {G : gT} {l : Launch} {V : Hp → Nat → Nat → Nat → List (Nat × Value) → List Value → Prop} {mc ms : Nat} {Q : Bool → Hp → Prop} (C : Cx G l V cX1_readHang 4 RX1 5 103 mc ms (pZ Q) none (some .boolean) [] false) (h : Hp) (c : Nat) (n : Nat) (x0 : Nat) (x1 : Nat) (x2 : Int32) (s0 : Int32) (b1 : c ≤ mc) (b2 : n ≤ ms) (hw : B_X1_readHang_25 mc ms Q h c n x0 x1 x2 s0) : V h c n 25 [(0, .ref x0), (1, .ref x1), (2, .int x2)] [.int s0] := by
  unfold B_X1_readHang_25 at hw
  refine r_istore_n (L' := [(3, .int s0), (0, .ref x0), (1, .ref x1), (2, .int x2)]) C rfl (by decide) rfl dX1_readHang_25 (r_iload_n C rfl 0 rfl dX1_readHang_26 (r_iconst (v := (-1 : Int32)) C (by decide) dX1_readHang_27 ?_))
  refine r_icmp_eq (tgt := 57) C (by decide) dX1_readHang_28 (fun hc1 => ?_) (fun hc1 => ?_)
  · have hw := hw.1 hc1
    exact r_sub C [0] rfl (b_X1_readHang_57 C _ _ _ _ b1 b2 hw)
  · have hw := hw.2 hc1
    refine r_aload_n C rfl 1 rfl dX1_readHang_31 (r_aload_n C rfl 2 rfl dX1_readHang_32 (r_iload_n C rfl 3 rfl dX1_readHang_33 ?_))
    obtain ⟨hq2, hw⟩ := hw
    refine r_callV (ci := 1) (rest := [.ref x0]) (As := [.int x2]) C sg_X2_hasSeal rfl rfl q1035 q1036 q1037 q78 q1038 rfl (Nat.le_of_ble_eq_true rfl) dX1_readHang_34 rfl hq2 b1 b2 (c_X2_hasSeal G l x1 x2 h _ hw) (k_Z (fun r3 h4 hw => ?_))
    refine r_if_eq_b (tgt := 53) C (by decide) dX1_readHang_37 (fun hc5 => ?_) (fun hc5 => ?_)
    · have hw := hw.1 hc5
      refine r_iconst (v := (0 : Int32)) C (by decide) dX1_readHang_53 ?_
      exact r_sub C [0] rfl (b_X1_readHang_54 C _ _ _ _ _ _ b1 b2 hw)
    · have hw := hw.2 hc5
      refine r_aload_n C rfl 2 rfl dX1_readHang_40 (r_iload_n C rfl 3 rfl dX1_readHang_41 (r_iload_n C rfl 0 rfl dX1_readHang_42 ?_))
      obtain ⟨hq6, hw⟩ := hw
      obtain ⟨k9, k10, hp11, hp12, hw⟩ := hw
      refine r_callV (ci := 1) (rest := [.ref x0]) (As := [.int x2, .int s0]) C sg_X2_hang rfl rfl q1039 q1040 q1041 q78 q1042 rfl (Nat.le_of_ble_eq_true rfl) dX1_readHang_43 rfl hq6 hp11 hp12 (c_X2_hang G l k9 k10 x1 x2 s0 h4 _ hw) (k_I (fun r7 h8 hw => ?_))
      have hJ : V h8 (c + k9) (n + k10) 54 [(3, .int s0)] [.int (bI (if r7 ≤ 0 then false else true)), .ref x0] := by
        exact r_sub C [0] rfl (b_X1_readHang_54 C _ _ _ _ _ _ hp11 hp12 hw)
      refine r_if_le (tgt := 53) C (by decide) dX1_readHang_46 (fun hc13 => ?_) (fun hc13 => ?_)
      · have hJ14 := hJ
        try simp only [if_pos hc13] at hJ14
        refine r_iconst (v := (0 : Int32)) C (by decide) dX1_readHang_53 ?_
        exact r_sub C [0] rfl hJ14
      · have hJ14 := hJ
        try simp only [if_neg hc13] at hJ14
        refine r_iconst (v := (1 : Int32)) C (by decide) dX1_readHang_49 (r_goto (tgt := 54) C (by decide) dX1_readHang_50 ?_)
        exact r_sub C [0] rfl hJ14
theorem sg_X1_readHang : ySg yX1_readHang 1 = true := by decide +kernel
theorem c_X1_readHang (G : gT) (l : Launch) (mc ms : Nat) (a0 : Nat) (a1 : Nat) (h : Hp) (Q : Bool → Hp → Prop) (hw : w_X1_readHang mc ms a0 a1 h Q) : Ct G l yX1_readHang (ws_ yX1_readHang cX1_readHang 4 (some .boolean)) 5 103 mc ms [.ref a0, .ref a1] h (pZ Q) := by
  refine Ct.of (own := RX1) false (by decide +kernel) rfl (show (_ : Nat) ≤ _ from Nat.le_of_ble_eq_true rfl) (fun z => by cases z) (fun V C => ?_)
  show V h 0 0 0 [(0, .ref a0), (1, .ref a1)] []
  unfold w_X1_readHang at hw
  refine r_aload_n C rfl 0 rfl dX1_readHang_0 (r_iconst (v := (2 : Int32)) C (by decide) dX1_readHang_1 (r_iconst (v := (0 : Int32)) C (by decide) dX1_readHang_2 (r_bipush (v := (23 : Int32)) C (by decide) dX1_readHang_3 ?_)))
  obtain ⟨hq20, hw⟩ := hw
  refine r_callV (ci := 0) (rest := []) (As := [.int (2 : Int32), .int (0 : Int32), .int (23 : Int32)]) C sg_X1_number rfl rfl q394 q396 qs8 q77 q397 rfl (Nat.le_of_ble_eq_true rfl) dX1_readHang_5 rfl hq20 (Nat.zero_le _) (Nat.zero_le _) (c_X1_number G l a0 (2 : Int32) (0 : Int32) (23 : Int32) h _ hw) (k_I (fun r21 h22 hw => ?_))
  refine r_istore_n (L' := [(2, .int r21), (0, .ref a0), (1, .ref a1)]) C rfl (by decide) rfl dX1_readHang_8 (r_iload_n C rfl 0 rfl dX1_readHang_9 (r_iconst (v := (-1 : Int32)) C (by decide) dX1_readHang_10 ?_))
  refine r_icmp_ne (tgt := 18) C (by decide) dX1_readHang_11 (fun hc23 => ?_) (fun hc23 => ?_)
  · have hw := hw.1 hc23
    refine r_aload_n C rfl 1 rfl dX1_readHang_18 (r_iconst (v := (1 : Int32)) C (by decide) dX1_readHang_19 (r_iconst (v := (0 : Int32)) C (by decide) dX1_readHang_20 (r_iconst (v := (5 : Int32)) C (by decide) dX1_readHang_21 ?_)))
    obtain ⟨hq24, hw⟩ := hw
    refine r_callV (ci := 0) (rest := []) (As := [.int (1 : Int32), .int (0 : Int32), .int (5 : Int32)]) C sg_X1_number rfl rfl q394 q396 qs8 q77 q397 rfl (Nat.le_of_ble_eq_true rfl) dX1_readHang_22 rfl hq24 (Nat.zero_le _) (Nat.zero_le _) (c_X1_number G l a0 (1 : Int32) (0 : Int32) (5 : Int32) h22 _ hw) (k_I (fun r25 h26 hw => ?_))
    exact r_sub C [1, 2, 0] rfl (b_X1_readHang_25 C _ _ _ _ _ _ _ (Nat.zero_le _) (Nat.zero_le _) hw)
  · have hw := hw.2 hc23
    refine r_iconst (v := (-1 : Int32)) C (by decide) dX1_readHang_14 (r_goto (tgt := 25) C (by decide) dX1_readHang_15 ?_)
    exact r_sub C [1, 2, 0] rfl (b_X1_readHang_25 C _ _ _ _ _ _ _ (Nat.zero_le _) (Nat.zero_le _) hw)
def w_X1_readEntry (mc ms : Nat) (a0 : Nat) (a1 : Nat) (h : Hp) (Q : Bool → Hp → Prop) : Prop :=
  hasC h a0 0 ∧ (w_X1_passes a0 (114 : Int32) h (fun r2 h3 => (r2 = false → hasC h3 a0 0 ∧ (w_X1_passes a0 (100 : Int32) h3 (fun r6 h7 => (r6 = false → hasC h7 a0 0 ∧ (w_X1_passes a0 (107 : Int32) h7 (fun r10 h11 => (r10 = false → hasC h11 a0 0 ∧ (w_X1_passes a0 (119 : Int32) h11 (fun r14 h15 => (r14 = false → hasC h15 a0 0 ∧ (w_X1_passes a0 (98 : Int32) h15 (fun r18 h19 => (r18 = false → hasC h19 a0 0 ∧ (w_X1_passes a0 (104 : Int32) h19 (fun r22 h23 => (r22 = false → Q false h23) ∧ (r22 = true → hasC h23 a0 0 ∧ (∃ k28 k29 : Nat, 0 + k28 ≤ mc ∧ 0 + k29 ≤ ms ∧ (w_X1_readHang k28 k29 a0 a1 h23 (fun r26 h27 => Q (if r26 = false then false else true) h27))))))) ∧ (r18 = true → hasC h19 a0 0 ∧ (∃ k37 k38 : Nat, 0 + k37 ≤ mc ∧ 0 + k38 ≤ ms ∧ (w_X1_readSeal k37 k38 a0 a1 (1 : Int32) h19 (fun r35 h36 => Q r35 h36))))))) ∧ (r14 = true → hasC h15 a0 0 ∧ (∃ k44 k45 : Nat, 0 + k44 ≤ mc ∧ 0 + k45 ≤ ms ∧ (w_X1_readSeal k44 k45 a0 a1 (0 : Int32) h15 (fun r42 h43 => Q r42 h43))))))) ∧ (r10 = true → hasC h11 a0 0 ∧ (∃ k51 k52 : Nat, 0 + k51 ≤ mc ∧ 0 + k52 ≤ ms ∧ (w_X1_readCrack k51 k52 a0 a1 h11 (fun r49 h50 => Q r49 h50))))))) ∧ (r6 = true → hasC h7 a0 0 ∧ (∃ k58 k59 : Nat, 0 + k58 ≤ mc ∧ 0 + k59 ≤ ms ∧ (w_X1_readDie k58 k59 a0 a1 h7 (fun r56 h57 => Q r56 h57))))))) ∧ (r2 = true → hasC h3 a0 0 ∧ (∃ k65 k66 : Nat, 0 + k65 ≤ mc ∧ 0 + k66 ≤ ms ∧ (w_X1_readReign k65 k66 a0 a1 h3 (fun r63 h64 => Q r63 h64))))))
theorem sg_X1_readEntry : ySg yX1_readEntry 1 = true := by decide +kernel
theorem c_X1_readEntry (G : gT) (l : Launch) (mc ms : Nat) (a0 : Nat) (a1 : Nat) (h : Hp) (Q : Bool → Hp → Prop) (hw : w_X1_readEntry mc ms a0 a1 h Q) : Ct G l yX1_readEntry (ws_ yX1_readEntry cX1_readEntry 2 (some .boolean)) 9 243 mc ms [.ref a0, .ref a1] h (pZ Q) := by
  refine Ct.of (own := RX1) false (by decide +kernel) rfl (show (_ : Nat) ≤ _ from Nat.le_of_ble_eq_true rfl) (fun z => by cases z) (fun V C => ?_)
  show V h 0 0 0 [(0, .ref a0), (1, .ref a1)] []
  unfold w_X1_readEntry at hw
  refine r_aload_n C rfl 0 rfl dX1_readEntry_0 (r_bipush (v := (114 : Int32)) C (by decide) dX1_readEntry_1 ?_)
  obtain ⟨hq1, hw⟩ := hw
  refine r_callV (ci := 0) (rest := []) (As := [.int (114 : Int32)]) C sg_X1_passes rfl rfl q382 q384 qs5 q77 q385 rfl (Nat.le_of_ble_eq_true rfl) dX1_readEntry_3 rfl hq1 (Nat.zero_le _) (Nat.zero_le _) (c_X1_passes G l a0 (114 : Int32) h _ hw) (k_Z (fun r2 h3 hw => ?_))
  refine r_if_eq_b (tgt := 17) C (by decide) dX1_readEntry_6 (fun hc4 => ?_) (fun hc4 => ?_)
  · have hw := hw.1 hc4
    refine r_aload_n C rfl 0 rfl dX1_readEntry_17 (r_bipush (v := (100 : Int32)) C (by decide) dX1_readEntry_18 ?_)
    obtain ⟨hq5, hw⟩ := hw
    refine r_callV (ci := 0) (rest := []) (As := [.int (100 : Int32)]) C sg_X1_passes rfl rfl q382 q384 qs5 q77 q385 rfl (Nat.le_of_ble_eq_true rfl) dX1_readEntry_20 rfl hq5 (Nat.zero_le _) (Nat.zero_le _) (c_X1_passes G l a0 (100 : Int32) h3 _ hw) (k_Z (fun r6 h7 hw => ?_))
    refine r_if_eq_b (tgt := 34) C (by decide) dX1_readEntry_23 (fun hc8 => ?_) (fun hc8 => ?_)
    · have hw := hw.1 hc8
      refine r_aload_n C rfl 0 rfl dX1_readEntry_34 (r_bipush (v := (107 : Int32)) C (by decide) dX1_readEntry_35 ?_)
      obtain ⟨hq9, hw⟩ := hw
      refine r_callV (ci := 0) (rest := []) (As := [.int (107 : Int32)]) C sg_X1_passes rfl rfl q382 q384 qs5 q77 q385 rfl (Nat.le_of_ble_eq_true rfl) dX1_readEntry_37 rfl hq9 (Nat.zero_le _) (Nat.zero_le _) (c_X1_passes G l a0 (107 : Int32) h7 _ hw) (k_Z (fun r10 h11 hw => ?_))
      refine r_if_eq_b (tgt := 51) C (by decide) dX1_readEntry_40 (fun hc12 => ?_) (fun hc12 => ?_)
      · have hw := hw.1 hc12
        refine r_aload_n C rfl 0 rfl dX1_readEntry_51 (r_bipush (v := (119 : Int32)) C (by decide) dX1_readEntry_52 ?_)
        obtain ⟨hq13, hw⟩ := hw
        refine r_callV (ci := 0) (rest := []) (As := [.int (119 : Int32)]) C sg_X1_passes rfl rfl q382 q384 qs5 q77 q385 rfl (Nat.le_of_ble_eq_true rfl) dX1_readEntry_54 rfl hq13 (Nat.zero_le _) (Nat.zero_le _) (c_X1_passes G l a0 (119 : Int32) h11 _ hw) (k_Z (fun r14 h15 hw => ?_))
        refine r_if_eq_b (tgt := 69) C (by decide) dX1_readEntry_57 (fun hc16 => ?_) (fun hc16 => ?_)
        · have hw := hw.1 hc16
          refine r_aload_n C rfl 0 rfl dX1_readEntry_69 (r_bipush (v := (98 : Int32)) C (by decide) dX1_readEntry_70 ?_)
          obtain ⟨hq17, hw⟩ := hw
          refine r_callV (ci := 0) (rest := []) (As := [.int (98 : Int32)]) C sg_X1_passes rfl rfl q382 q384 qs5 q77 q385 rfl (Nat.le_of_ble_eq_true rfl) dX1_readEntry_72 rfl hq17 (Nat.zero_le _) (Nat.zero_le _) (c_X1_passes G l a0 (98 : Int32) h15 _ hw) (k_Z (fun r18 h19 hw => ?_))
          refine r_if_eq_b (tgt := 87) C (by decide) dX1_readEntry_75 (fun hc20 => ?_) (fun hc20 => ?_)
          · have hw := hw.1 hc20
            refine r_aload_n C rfl 0 rfl dX1_readEntry_87 (r_bipush (v := (104 : Int32)) C (by decide) dX1_readEntry_88 ?_)
            obtain ⟨hq21, hw⟩ := hw
            refine r_callV (ci := 0) (rest := []) (As := [.int (104 : Int32)]) C sg_X1_passes rfl rfl q382 q384 qs5 q77 q385 rfl (Nat.le_of_ble_eq_true rfl) dX1_readEntry_90 rfl hq21 (Nat.zero_le _) (Nat.zero_le _) (c_X1_passes G l a0 (104 : Int32) h19 _ hw) (k_Z (fun r22 h23 hw => ?_))
            refine r_if_eq_b (tgt := 108) C (by decide) dX1_readEntry_93 (fun hc24 => ?_) (fun hc24 => ?_)
            · have hw := hw.1 hc24
              refine r_iconst (v := (0 : Int32)) C (by decide) dX1_readEntry_108 ?_
              exact r_zreturn (x := false) C dX1_readEntry_109 (Nat.zero_le _) (Nat.zero_le _) ⟨_, rfl, hw⟩
            · have hw := hw.2 hc24
              refine r_aload_n C rfl 0 rfl dX1_readEntry_96 (r_aload_n C rfl 1 rfl dX1_readEntry_97 ?_)
              obtain ⟨hq25, hw⟩ := hw
              obtain ⟨k28, k29, hp30, hp31, hw⟩ := hw
              refine r_callV (ci := 0) (rest := []) (As := [.ref a1]) C sg_X1_readHang rfl rfl q1031 q1033 qs18 q77 q1034 rfl (Nat.le_of_ble_eq_true rfl) dX1_readEntry_98 rfl hq25 hp30 hp31 (c_X1_readHang G l k28 k29 a0 a1 h23 _ hw) (k_Z (fun r26 h27 hw => ?_))
              have hJ : V h27 (0 + k28) (0 + k29) 109 [] [.int (bI (if r26 = false then false else true))] := by
                exact r_zreturn (x := (if r26 = false then false else true)) C dX1_readEntry_109 hp30 hp31 ⟨_, rfl, hw⟩
              refine r_if_eq_b (tgt := 108) C (by decide) dX1_readEntry_101 (fun hc32 => ?_) (fun hc32 => ?_)
              · have hJ33 := hJ
                try simp only [if_pos hc32] at hJ33
                refine r_iconst (v := (0 : Int32)) C (by decide) dX1_readEntry_108 ?_
                exact r_sub C [] rfl hJ33
              · have hJ33 := hJ
                try simp only [if_neg (show ¬ r26 = false from by rw [hc32]; decide)] at hJ33
                refine r_iconst (v := (1 : Int32)) C (by decide) dX1_readEntry_104 (r_goto (tgt := 109) C (by decide) dX1_readEntry_105 ?_)
                exact r_sub C [] rfl hJ33
          · have hw := hw.2 hc20
            refine r_aload_n C rfl 0 rfl dX1_readEntry_78 (r_aload_n C rfl 1 rfl dX1_readEntry_79 (r_iconst (v := (1 : Int32)) C (by decide) dX1_readEntry_80 ?_))
            obtain ⟨hq34, hw⟩ := hw
            obtain ⟨k37, k38, hp39, hp40, hw⟩ := hw
            refine r_callV (ci := 0) (rest := []) (As := [.ref a1, .int (1 : Int32)]) C sg_X1_readSeal rfl rfl q979 q981 qs17 q77 q982 rfl (Nat.le_of_ble_eq_true rfl) dX1_readEntry_81 rfl hq34 hp39 hp40 (c_X1_readSeal G l k37 k38 a0 a1 (1 : Int32) h19 _ hw) (k_Z (fun r35 h36 hw => ?_))
            refine r_goto (tgt := 109) C (by decide) dX1_readEntry_84 ?_
            exact r_zreturn (x := r35) C dX1_readEntry_109 hp39 hp40 ⟨_, rfl, hw⟩
        · have hw := hw.2 hc16
          refine r_aload_n C rfl 0 rfl dX1_readEntry_60 (r_aload_n C rfl 1 rfl dX1_readEntry_61 (r_iconst (v := (0 : Int32)) C (by decide) dX1_readEntry_62 ?_))
          obtain ⟨hq41, hw⟩ := hw
          obtain ⟨k44, k45, hp46, hp47, hw⟩ := hw
          refine r_callV (ci := 0) (rest := []) (As := [.ref a1, .int (0 : Int32)]) C sg_X1_readSeal rfl rfl q979 q981 qs17 q77 q982 rfl (Nat.le_of_ble_eq_true rfl) dX1_readEntry_63 rfl hq41 hp46 hp47 (c_X1_readSeal G l k44 k45 a0 a1 (0 : Int32) h15 _ hw) (k_Z (fun r42 h43 hw => ?_))
          refine r_goto (tgt := 109) C (by decide) dX1_readEntry_66 ?_
          exact r_zreturn (x := r42) C dX1_readEntry_109 hp46 hp47 ⟨_, rfl, hw⟩
      · have hw := hw.2 hc12
        refine r_aload_n C rfl 0 rfl dX1_readEntry_43 (r_aload_n C rfl 1 rfl dX1_readEntry_44 ?_)
        obtain ⟨hq48, hw⟩ := hw
        obtain ⟨k51, k52, hp53, hp54, hw⟩ := hw
        refine r_callV (ci := 0) (rest := []) (As := [.ref a1]) C sg_X1_readCrack rfl rfl q877 q879 qs16 q77 q880 rfl (Nat.le_of_ble_eq_true rfl) dX1_readEntry_45 rfl hq48 hp53 hp54 (c_X1_readCrack G l k51 k52 a0 a1 h11 _ hw) (k_Z (fun r49 h50 hw => ?_))
        refine r_goto (tgt := 109) C (by decide) dX1_readEntry_48 ?_
        exact r_zreturn (x := r49) C dX1_readEntry_109 hp53 hp54 ⟨_, rfl, hw⟩
    · have hw := hw.2 hc8
      refine r_aload_n C rfl 0 rfl dX1_readEntry_26 (r_aload_n C rfl 1 rfl dX1_readEntry_27 ?_)
      obtain ⟨hq55, hw⟩ := hw
      obtain ⟨k58, k59, hp60, hp61, hw⟩ := hw
      refine r_callV (ci := 0) (rest := []) (As := [.ref a1]) C sg_X1_readDie rfl rfl q828 q830 qs15 q77 q831 rfl (Nat.le_of_ble_eq_true rfl) dX1_readEntry_28 rfl hq55 hp60 hp61 (c_X1_readDie G l k58 k59 a0 a1 h7 _ hw) (k_Z (fun r56 h57 hw => ?_))
      refine r_goto (tgt := 109) C (by decide) dX1_readEntry_31 ?_
      exact r_zreturn (x := r56) C dX1_readEntry_109 hp60 hp61 ⟨_, rfl, hw⟩
  · have hw := hw.2 hc4
    refine r_aload_n C rfl 0 rfl dX1_readEntry_9 (r_aload_n C rfl 1 rfl dX1_readEntry_10 ?_)
    obtain ⟨hq62, hw⟩ := hw
    obtain ⟨k65, k66, hp67, hp68, hw⟩ := hw
    refine r_callV (ci := 0) (rest := []) (As := [.ref a1]) C sg_X1_readReign rfl rfl q390 q392 qs7 q77 q393 rfl (Nat.le_of_ble_eq_true rfl) dX1_readEntry_11 rfl hq62 hp67 hp68 (c_X1_readReign G l k65 k66 a0 a1 h3 _ hw) (k_Z (fun r63 h64 hw => ?_))
    refine r_goto (tgt := 109) C (by decide) dX1_readEntry_14 ?_
    exact r_zreturn (x := r63) C dX1_readEntry_109 hp67 hp68 ⟨_, rfl, hw⟩
def S_X1_read_20 (mc ms : Nat) (Q : Option Nat → Hp → Prop) (LA20 : Hp → Nat → Nat → Nat → Nat → Bool → Prop) (h : Hp) (c : Nat) (n : Nat) (x0 : Nat) (x1 : Nat) (x2 : Bool) : Prop :=
  (x2 = false → gfI h x0 0 5 (fun v2 => gfI h x0 0 4 (fun v3 => (v3 ≤ v2 → Q (some x1) h) ∧ (¬ v3 ≤ v2 → Q none h)))) ∧ (x2 = true → hasC h x0 0 ∧ (∃ k8 k9 : Nat, c + k8 ≤ mc ∧ n + k9 ≤ ms ∧ (w_X1_readEntry k8 k9 x0 x1 h (fun r6 h7 => (r6 = true → hasC h7 x0 0 ∧ (w_X1_passes x0 (59 : Int32) h7 (fun r14 h15 => LA20 h15 (c + k8) (n + k9) x0 x1 r14))) ∧ (r6 = false → Q none h7)))))
def B_X1_read_20 (mc ms : Nat) (Q : Option Nat → Hp → Prop) : Nat → Hp → Nat → Nat → Nat → Nat → Bool → Prop
  | 0, _, _, _, _, _, _ => False
  | k + 1, h, c, n, x0, x1, x2 => S_X1_read_20 mc ms Q (B_X1_read_20 mc ms Q k) h c n x0 x1 x2
def w_X1_read (mc ms : Nat) (a0 : Nat) (h : Hp) (Q : Option Nat → Hp → Prop) : Prop :=
  pf h a0 0 5 (.int (0 : Int32)) (fun h16 => pf h16 a0 0 6 (.int (0 : Int32)) (fun h17 => 0 + 1 ≤ mc ∧ 0 + 6 ≤ ms ∧ (nwO h17 1 [.null, .null, .null, .null, .null, .null] (fun q20 h21 => ∃ k24 k25 : Nat, (0 + 1) + k24 ≤ mc ∧ (0 + 6) + k25 ≤ ms ∧ (w_X2_init k24 k25 q20 h21 (fun h23 => ∃ k9 : Nat, B_X1_read_20 mc ms Q k9 h23 ((0 + 1) + k24) ((0 + 6) + k25) a0 q20 true))))))
theorem s_X1_read_20 {G : gT} {l : Launch} {V : Hp → Nat → Nat → Nat → List (Nat × Value) → List Value → Prop} {mc ms : Nat} {Q : Option Nat → Hp → Prop} (C : Cx G l V cX1_read 3 RX1 10 264 mc ms (pR Q) none (some (.object "CordSeals$Collection")) [] false) (LA20 : Hp → Nat → Nat → Nat → Nat → Bool → Prop) (hLA20 : ∀ (h : Hp) (c : Nat) (n : Nat) (x0 : Nat) (x1 : Nat) (x2 : Bool), c ≤ mc → n ≤ ms → LA20 h c n x0 x1 x2 → V h c n 20 [(0, .ref x0), (1, .ref x1), (2, .int (bI x2))] []) (h : Hp) (c : Nat) (n : Nat) (x0 : Nat) (x1 : Nat) (x2 : Bool) (b1 : c ≤ mc) (b2 : n ≤ ms) (hw : S_X1_read_20 mc ms Q LA20 h c n x0 x1 x2) : V h c n 20 [(0, .ref x0), (1, .ref x1), (2, .int (bI x2))] [] := by
  unfold S_X1_read_20 at hw
  refine r_iload_n C rfl 2 rfl dX1_read_20 ?_
  refine r_if_eq_b (tgt := 44) C (by decide) dX1_read_21 (fun hc1 => ?_) (fun hc1 => ?_)
  · have hw := hw.1 hc1
    refine r_aload_n C rfl 0 rfl dX1_read_44 ?_
    refine r_gfI (k := 5) C kX1 (by decide) (Or.inl q349) (Or.inl rfl) dX1_read_45 hw (fun v2 hw => ?_)
    refine r_aload_n C rfl 0 rfl dX1_read_48 ?_
    refine r_gfI (k := 4) C kX1 (by decide) (Or.inl q348) (Or.inl rfl) dX1_read_49 hw (fun v3 hw => ?_)
    refine r_icmp_ge (tgt := 59) C (by decide) dX1_read_52 (fun hc4 => ?_) (fun hc4 => ?_)
    · have hw := hw.1 hc4
      refine r_aload_n C rfl 1 rfl dX1_read_59 ?_
      exact r_areturn (x := some x1) C (by first | exact Or.inl ⟨_, rfl⟩ | exact Or.inr ⟨_, rfl⟩) dX1_read_60 b1 b2 ⟨_, rfl, hw⟩
    · have hw := hw.2 hc4
      refine r_null C dX1_read_55 (r_goto (tgt := 60) C (by decide) dX1_read_56 ?_)
      exact r_areturn (x := none) C (by first | exact Or.inl ⟨_, rfl⟩ | exact Or.inr ⟨_, rfl⟩) dX1_read_60 b1 b2 ⟨_, rfl, hw⟩
  · have hw := hw.2 hc1
    refine r_aload_n C rfl 0 rfl dX1_read_24 (r_aload_n C rfl 1 rfl dX1_read_25 ?_)
    obtain ⟨hq5, hw⟩ := hw
    obtain ⟨k8, k9, hp10, hp11, hw⟩ := hw
    refine r_callV (ci := 0) (rest := []) (As := [.ref x1]) C sg_X1_readEntry rfl rfl q378 q380 qs4 q77 q381 rfl (Nat.le_of_ble_eq_true rfl) dX1_read_26 rfl hq5 hp10 hp11 (c_X1_readEntry G l k8 k9 x0 x1 h _ hw) (k_Z (fun r6 h7 hw => ?_))
    refine r_if_ne_b (tgt := 34) C (by decide) dX1_read_29 (fun hc12 => ?_) (fun hc12 => ?_)
    · have hw := hw.1 hc12
      refine r_aload_n C rfl 0 rfl dX1_read_34 (r_bipush (v := (59 : Int32)) C (by decide) dX1_read_35 ?_)
      obtain ⟨hq13, hw⟩ := hw
      refine r_callV (ci := 0) (rest := []) (As := [.int (59 : Int32)]) C sg_X1_passes rfl rfl q382 q384 qs5 q77 q385 rfl (Nat.le_of_ble_eq_true rfl) dX1_read_37 rfl hq13 hp10 hp11 (c_X1_passes G l x0 (59 : Int32) h7 _ hw) (k_Z (fun r14 h15 hw => ?_))
      refine r_istore_n (L' := [(2, .int (bI r14)), (0, .ref x0), (1, .ref x1)]) C rfl (by decide) rfl dX1_read_40 (r_goto (tgt := 20) C (by decide) dX1_read_41 ?_)
      exact r_sub C [1, 2, 0] rfl (hLA20 _ _ _ _ _ _ hp10 hp11 hw)
    · have hw := hw.2 hc12
      refine r_null C dX1_read_32 ?_
      exact r_areturn (x := none) C (by first | exact Or.inl ⟨_, rfl⟩ | exact Or.inr ⟨_, rfl⟩) dX1_read_33 hp10 hp11 ⟨_, rfl, hw⟩
theorem b_X1_read_20 {G : gT} {l : Launch} {V : Hp → Nat → Nat → Nat → List (Nat × Value) → List Value → Prop} {mc ms : Nat} {Q : Option Nat → Hp → Prop} (C : Cx G l V cX1_read 3 RX1 10 264 mc ms (pR Q) none (some (.object "CordSeals$Collection")) [] false) : ∀ (k : Nat) (h : Hp) (c : Nat) (n : Nat) (x0 : Nat) (x1 : Nat) (x2 : Bool), c ≤ mc → n ≤ ms → B_X1_read_20 mc ms Q k h c n x0 x1 x2 → V h c n 20 [(0, .ref x0), (1, .ref x1), (2, .int (bI x2))] [] := by
  intro k
  induction k with
  | zero =>
    intro h c n x0 x1 x2 b1 b2 hw
    exact hw.elim
  | succ k ih =>
    intro h c n x0 x1 x2 b1 b2 hw
    exact s_X1_read_20 C _ (fun h c n x0 x1 x2 b1 b2 hw => ih h c n x0 x1 x2 b1 b2 hw) h c n x0 x1 x2 b1 b2 hw
theorem sg_X1_read : ySg yX1_read 0 = true := by decide +kernel
theorem c_X1_read (G : gT) (l : Launch) (mc ms : Nat) (a0 : Nat) (h : Hp) (Q : Option Nat → Hp → Prop) (hw : w_X1_read mc ms a0 h Q) : Ct G l yX1_read (ws_ yX1_read cX1_read 3 (some (.object "CordSeals$Collection"))) 10 264 mc ms [.ref a0] h (pR Q) := by
  refine Ct.of (own := RX1) false (by decide +kernel) rfl (show (_ : Nat) ≤ _ from Nat.le_of_ble_eq_true rfl) (fun z => by cases z) (fun V C => ?_)
  show V h 0 0 0 [(0, .ref a0)] []
  unfold w_X1_read at hw
  refine r_aload_n C rfl 0 rfl dX1_read_0 (r_iconst (v := (0 : Int32)) C (by decide) dX1_read_1 ?_)
  refine r_pf (k := 5) (v := .int (0 : Int32)) C kX1 (by decide) (Or.inl q349) (Or.inl rfl) (Or.inl rfl) rfl rfl dX1_read_2 hw (fun h16 hw => ?_)
  refine r_aload_n C rfl 0 rfl dX1_read_5 (r_iconst (v := (0 : Int32)) C (by decide) dX1_read_6 ?_)
  refine r_pf (k := 6) (v := .int (0 : Int32)) C kX1 (by decide) (Or.inl q350) (Or.inl rfl) (Or.inl rfl) rfl rfl dX1_read_7 hw (fun h17 hw => ?_)
  obtain ⟨hp18, hp19, hw⟩ := hw
  refine r_new C kX2 q130 q131 q78 df_1 dX1_read_10 hp18 hp19 hw (fun q20 h21 hw => ?_)
  refine r_dup C rfl dX1_read_13 ?_
  obtain ⟨k24, k25, hp26, hp27, hw⟩ := hw
  refine r_callI (rest := [.ref q20]) (As := []) C sg_X2_init rfl q132 q133 q78 q134 rfl (Nat.le_of_ble_eq_true rfl) dX1_read_14 rfl hp26 hp27 (c_X2_init G l k24 k25 q20 h21 _ hw) (k_V (fun h23 hw => ?_))
  refine r_astore_n (L' := [(1, .ref q20), (0, .ref a0)]) C rfl (by decide) rfl dX1_read_17 (r_iconst (v := (1 : Int32)) C (by decide) dX1_read_18 (r_istore_n (L' := [(2, .int (1 : Int32)), (1, .ref q20), (0, .ref a0)]) C rfl (by decide) rfl dX1_read_19 ?_))
  obtain ⟨k9, hw⟩ := hw
  exact r_sub C [2, 1, 0] rfl (b_X1_read_20 C _ _ _ _ _ _ _ hp26 hp27 hw)
def w_X1_errorPosition (mc ms : Nat) (a0 : Nat) (h : Hp) (Q : Int32 → Hp → Prop) : Prop :=
  hasC h a0 0 ∧ (∃ k4 k5 : Nat, 0 + k4 ≤ mc ∧ 0 + k5 ≤ ms ∧ (w_X1_read k4 k5 a0 h (fun r2 h3 => (r2 = none → gfI h3 a0 0 5 (fun v9 => Q v9 h3)) ∧ (∀ y8 : Nat, r2 = some y8 → Q (-1 : Int32) h3))))
theorem sg_X1_errorPosition : ySg yX1_errorPosition 0 = true := by decide +kernel
theorem c_X1_errorPosition (G : gT) (l : Launch) (mc ms : Nat) (a0 : Nat) (h : Hp) (Q : Int32 → Hp → Prop) (hw : w_X1_errorPosition mc ms a0 h Q) : Ct G l yX1_errorPosition (ws_ yX1_errorPosition cX1_errorPosition 1 (some .int)) 11 286 mc ms [.ref a0] h (pI Q) := by
  refine Ct.of (own := RX1) false (by decide +kernel) rfl (show (_ : Nat) ≤ _ from Nat.le_of_ble_eq_true rfl) (fun z => by cases z) (fun V C => ?_)
  show V h 0 0 0 [(0, .ref a0)] []
  unfold w_X1_errorPosition at hw
  refine r_aload_n C rfl 0 rfl dX1_errorPosition_0 ?_
  obtain ⟨hq1, hw⟩ := hw
  obtain ⟨k4, k5, hp6, hp7, hw⟩ := hw
  refine r_callV (ci := 0) (rest := []) (As := []) C sg_X1_read rfl rfl q374 q376 qs3 q77 q377 rfl (Nat.le_of_ble_eq_true rfl) dX1_errorPosition_1 rfl hq1 hp6 hp7 (c_X1_read G l k4 k5 a0 h _ hw) (k_R (fun r2 h3 hw => ?_))
  refine r_ifnonnull (x := r2) (tgt := 14) C (by decide) dX1_errorPosition_4 (fun y8 hc10 => ?_) (fun hc10 => ?_)
  · have hw_y8 := hw.2 y8 hc10
    subst hc10
    have hw := hw_y8
    refine r_iconst (v := (-1 : Int32)) C (by decide) dX1_errorPosition_14 ?_
    exact r_ireturn C dX1_errorPosition_15 hp6 hp7 ⟨_, rfl, hw⟩
  · have hw_y8 := hw.1 hc10
    subst hc10
    have hw := hw_y8
    refine r_aload_n C rfl 0 rfl dX1_errorPosition_7 ?_
    refine r_gfI (k := 5) C kX1 (by decide) (Or.inl q349) (Or.inl rfl) dX1_errorPosition_8 hw (fun v9 hw => ?_)
    refine r_goto (tgt := 15) C (by decide) dX1_errorPosition_11 ?_
    exact r_ireturn C dX1_errorPosition_15 hp6 hp7 ⟨_, rfl, hw⟩
def w_X1_check (mc ms : Nat) (b0 : Bool) (h : Hp) (X : String → Hp → Prop) (Q : Hp → Prop) : Prop :=
  (b0 = true → Q h) ∧ (b0 = false → 0 + 1 ≤ mc ∧ 0 + 6 ≤ ms ∧ X "java/lang/IllegalArgumentException" h)
theorem sg_X1_check : ySg yX1_check 1 = true := by decide +kernel
theorem c_X1_check (G : gT) (l : Launch) (mc ms : Nat) (b0 : Bool) (h : Hp) (X : String → Hp → Prop) (Q : Hp → Prop) (hst : l.stackTraces = false) (hw : w_X1_check mc ms b0 h X Q) : CtX G l yX1_check (ws_ yX1_check cX1_check 1 (none)) 6 90 mc ms [.int (bI b0)] h (pV Q) X := by
  refine CtX.of (own := RX1) hst (by decide +kernel) rfl (show (_ : Nat) ≤ _ from Nat.le_of_ble_eq_true rfl) (fun V C => ?_)
  show V h 0 0 0 [(0, .int (bI b0))] []
  unfold w_X1_check at hw
  refine r_iload_n C rfl 0 rfl dX1_check_0 ?_
  refine r_if_ne_b (tgt := 12) C (by decide) dX1_check_1 (fun hc1 => ?_) (fun hc1 => ?_)
  · have hw := hw.1 hc1
    exact r_return C dX1_check_12 (Nat.zero_le _) (Nat.zero_le _) ⟨rfl, hw⟩
  · have hw := hw.2 hc1
    exact r_throw0 C tW_IAE dX1_check_4 dX1_check_7 dX1_check_8 dX1_check_11 (by decide) (by simp [Value.category]) hw.1 hw.2.1 hw.2.2
def w_X1_free (mc ms : Nat) (b0 : Bool) (h : Hp) (X : String → Hp → Prop) (Q : Hp → Prop) : Prop :=
  (b0 = true → Q h) ∧ (b0 = false → 0 + 1 ≤ mc ∧ 0 + 6 ≤ ms ∧ X "java/lang/IllegalStateException" h)
theorem sg_X1_free : ySg yX1_free 1 = true := by decide +kernel
theorem c_X1_free (G : gT) (l : Launch) (mc ms : Nat) (b0 : Bool) (h : Hp) (X : String → Hp → Prop) (Q : Hp → Prop) (hst : l.stackTraces = false) (hw : w_X1_free mc ms b0 h X Q) : CtX G l yX1_free (ws_ yX1_free cX1_free 1 (none)) 6 90 mc ms [.int (bI b0)] h (pV Q) X := by
  refine CtX.of (own := RX1) hst (by decide +kernel) rfl (show (_ : Nat) ≤ _ from Nat.le_of_ble_eq_true rfl) (fun V C => ?_)
  show V h 0 0 0 [(0, .int (bI b0))] []
  unfold w_X1_free at hw
  refine r_iload_n C rfl 0 rfl dX1_free_0 ?_
  refine r_if_ne_b (tgt := 12) C (by decide) dX1_free_1 (fun hc1 => ?_) (fun hc1 => ?_)
  · have hw := hw.1 hc1
    exact r_return C dX1_free_12 (Nat.zero_le _) (Nat.zero_le _) ⟨rfl, hw⟩
  · have hw := hw.2 hc1
    exact r_throw0 C tW_ISE dX1_free_4 dX1_free_7 dX1_free_8 dX1_free_11 (by decide) (by simp [Value.category]) hw.1 hw.2.1 hw.2.2
def w_X1_append (mc ms : Nat) (a0 : Nat) (i1 : Int32) (h : Hp) (X : String → Hp → Prop) (Q : Int32 → Hp → Prop) : Prop :=
  w_X1_isIn i1.toInt64 (0 : Int64) (255 : Int64) h (fun r1 h2 => ∃ k5 k6 : Nat, 0 + k5 ≤ mc ∧ 0 + k6 ≤ ms ∧ (w_X1_check k5 k6 r1 h2 X (fun h4 => gfI h4 a0 0 4 (fun v9 => ∃ k12 k13 : Nat, (0 + k5) + k12 ≤ mc ∧ (0 + k6) + k13 ≤ ms ∧ (w_X1_free k12 k13 (if (120 : Int32) ≤ v9 then false else true) h4 X (fun h11 => gfR h11 a0 0 3 (fun v16 => gfI h11 a0 0 4 (fun v17 => nn v16 (fun y19 => wrI h11 y19 v17 i1 (fun h18 => gfI h18 a0 0 4 (fun v20 => pf h18 a0 0 4 (.int (v20 + (1 : Int32))) (fun h21 => gfI h21 a0 0 4 (fun v22 => Q v22 h21)))))))))))))
theorem sg_X1_append : ySg yX1_append 1 = true := by decide +kernel
theorem c_X1_append (G : gT) (l : Launch) (mc ms : Nat) (a0 : Nat) (i1 : Int32) (h : Hp) (X : String → Hp → Prop) (Q : Int32 → Hp → Prop) (hst : l.stackTraces = false) (hw : w_X1_append mc ms a0 i1 h X Q) : CtX G l yX1_append (ws_ yX1_append cX1_append 2 (some .int)) 7 110 mc ms [.ref a0, .int i1] h (pI Q) X := by
  refine CtX.of (own := RX1) hst (by decide +kernel) rfl (show (_ : Nat) ≤ _ from Nat.le_of_ble_eq_true rfl) (fun V C => ?_)
  show V h 0 0 0 [(0, .ref a0), (1, .int i1)] []
  unfold w_X1_append at hw
  refine r_iload_n C rfl 1 rfl dX1_append_0 (r_i2l C dX1_append_1 (r_lconst (v := (0 : Int64)) C (by decide) dX1_append_2 (r_ldc2 (v := (255 : Int64)) C q1331 dX1_append_3 ?_)))
  refine r_callS (rest := []) (As := [.long i1.toInt64, .long (0 : Int64), .long (255 : Int64)]) C sg_X1_isIn q399 q400 q77 q401 rfl (Nat.le_of_ble_eq_true rfl) dX1_append_6 rfl (Nat.zero_le _) (Nat.zero_le _) (c_X1_isIn G l i1.toInt64 (0 : Int64) (255 : Int64) h _ hw) (k_Z (fun r1 h2 hw => ?_))
  obtain ⟨k5, k6, hp7, hp8, hw⟩ := hw
  refine r_callSX (rest := []) (As := [.int (bI r1)]) C sg_X1_check q1332 q1333 q77 q1334 rfl (Nat.le_of_ble_eq_true rfl) dX1_append_9 rfl hp7 hp8 (c_X1_check G l k5 k6 r1 h2 X _ (st_C C) hw) (k_V (fun h4 hw => ?_))
  refine r_aload_n C rfl 0 rfl dX1_append_12 ?_
  refine r_gfI (k := 4) C kX1 (by decide) (Or.inl q348) (Or.inl rfl) dX1_append_13 hw (fun v9 hw => ?_)
  refine r_bipush (v := (120 : Int32)) C (by decide) dX1_append_16 ?_
  have hJ : V h4 (0 + k5) (0 + k6) 26 [(0, .ref a0), (1, .int i1)] [.int (bI (if (120 : Int32) ≤ v9 then false else true))] := by
    obtain ⟨k12, k13, hp14, hp15, hw⟩ := hw
    refine r_callSX (rest := []) (As := [.int (bI (if (120 : Int32) ≤ v9 then false else true))]) C sg_X1_free q1340 q1341 q77 q1342 rfl (Nat.le_of_ble_eq_true rfl) dX1_append_26 rfl hp14 hp15 (c_X1_free G l k12 k13 (if (120 : Int32) ≤ v9 then false else true) h4 X _ (st_C C) hw) (k_V (fun h11 hw => ?_))
    refine r_aload_n C rfl 0 rfl dX1_append_29 ?_
    refine r_gfR (k := 3) C kX1 (by decide) (Or.inl q347) (Or.inl rfl) dX1_append_30 hw (fun v16 hw => ?_)
    refine r_aload_n C rfl 0 rfl dX1_append_33 ?_
    refine r_gfI (k := 4) C kX1 (by decide) (Or.inl q348) (Or.inl rfl) dX1_append_34 hw (fun v17 hw => ?_)
    refine r_iload_n C rfl 1 rfl dX1_append_37 ?_
    obtain ⟨y19, rfl, hw_y19⟩ := hw
    have hw := hw_y19
    refine r_iastore C dX1_append_38 hw (fun h18 hw => ?_)
    refine r_aload_n C rfl 0 rfl dX1_append_39 (r_dup C rfl dX1_append_40 ?_)
    refine r_gfI (k := 4) C kX1 (by decide) (Or.inl q348) (Or.inl rfl) dX1_append_41 hw (fun v20 hw => ?_)
    refine r_iconst (v := (1 : Int32)) C (by decide) dX1_append_44 (r_iadd C dX1_append_45 ?_)
    refine r_pf (k := 4) (v := .int (v20 + (1 : Int32))) C kX1 (by decide) (Or.inl q348) (Or.inl rfl) (Or.inl rfl) rfl rfl dX1_append_46 hw (fun h21 hw => ?_)
    refine r_aload_n C rfl 0 rfl dX1_append_49 ?_
    refine r_gfI (k := 4) C kX1 (by decide) (Or.inl q348) (Or.inl rfl) dX1_append_50 hw (fun v22 hw => ?_)
    exact r_ireturn C dX1_append_53 hp14 hp15 ⟨_, rfl, hw⟩
  refine r_icmp_ge (tgt := 25) C (by decide) dX1_append_18 (fun hc23 => ?_) (fun hc23 => ?_)
  · have hJ24 := hJ
    try simp only [if_pos hc23] at hJ24
    refine r_iconst (v := (0 : Int32)) C (by decide) dX1_append_25 ?_
    exact r_sub C [0, 1] rfl hJ24
  · have hJ24 := hJ
    try simp only [if_neg hc23] at hJ24
    refine r_iconst (v := (1 : Int32)) C (by decide) dX1_append_21 (r_goto (tgt := 26) C (by decide) dX1_append_22 ?_)
    exact r_sub C [0, 1] rfl hJ24
def B_X1_load_14 (mc ms : Nat) (X : String → Hp → Prop) (Q : Int32 → Hp → Prop) (h : Hp) (c : Nat) (n : Nat) (x0 : Nat) (x1 : Option Nat) (s0 : Bool) : Prop :=
  ∃ k3 k4 : Nat, c + k3 ≤ mc ∧ n + k4 ≤ ms ∧ (w_X1_free k3 k4 s0 h X (fun h2 => pf h2 x0 0 0 (va_rf x1) (fun h7 => gfR h7 x0 0 1 (fun v8 => nn v8 (fun y9 => hasC h7 y9 11 ∧ (wj_J9_clear y9 h7 (fun h12 => gfR h12 x0 0 2 (fun v13 => nn v13 (fun y15 => wrR 4 h12 y15 (0 : Int32) none (fun h14 => gfR h14 x0 0 2 (fun v16 => nn v16 (fun y18 => wrR 4 h14 y18 (1 : Int32) none (fun h17 => gfI h17 x0 0 6 (fun v19 => Q v19 h17))))))))))))))
def w_X1_load (mc ms : Nat) (a0 : Nat) (h : Hp) (X : String → Hp → Prop) (Q : Int32 → Hp → Prop) : Prop :=
  hasC h a0 0 ∧ (∃ k23 k24 : Nat, 0 + k23 ≤ mc ∧ 0 + k24 ≤ ms ∧ (w_X1_read k23 k24 a0 h (fun r21 h22 => (r21 = none → B_X1_load_14 mc ms X Q h22 (0 + k23) (0 + k24) a0 none false) ∧ (∀ y27 : Nat, r21 = some y27 → B_X1_load_14 mc ms X Q h22 (0 + k23) (0 + k24) a0 (some y27) true))))
theorem b_X1_load_14 {G : gT} {l : Launch} {V : Hp → Nat → Nat → Nat → List (Nat × Value) → List Value → Prop} {mc ms : Nat} {X : String → Hp → Prop} {Q : Int32 → Hp → Prop} (C : Cx G l V cX1_load 2 RX1 11 286 mc ms (pI Q) (some X) (some .int) [] false) (h : Hp) (c : Nat) (n : Nat) (x0 : Nat) (x1 : Option Nat) (s0 : Bool) (b1 : c ≤ mc) (b2 : n ≤ ms) (hw : B_X1_load_14 mc ms X Q h c n x0 x1 s0) : V h c n 14 [(0, .ref x0), (1, va_rf x1)] [.int (bI s0)] := by
  unfold B_X1_load_14 at hw
  obtain ⟨k3, k4, hp5, hp6, hw⟩ := hw
  refine r_callSX (rest := []) (As := [.int (bI s0)]) C sg_X1_free q1340 q1341 q77 q1342 rfl (Nat.le_of_ble_eq_true rfl) dX1_load_14 rfl hp5 hp6 (c_X1_free G l k3 k4 s0 h X _ (st_C C) hw) (k_V (fun h2 hw => ?_))
  refine r_aload_n C rfl 0 rfl dX1_load_17 (r_aload_nO C rfl 1 rfl dX1_load_18 ?_)
  refine r_pf (k := 0) (v := va_rf x1) C kX1 (by decide) (Or.inl q344) (Or.inl rfl) (Or.inl rfl) (n_rfO _ _) (f_rfO _ _) dX1_load_19 hw (fun h7 hw => ?_)
  refine r_aload_n C rfl 0 rfl dX1_load_22 ?_
  refine r_gfR (k := 1) C kX1 (by decide) (Or.inl q345) (Or.inl rfl) dX1_load_23 hw (fun v8 hw => ?_)
  obtain ⟨y9, rfl, hw_y9⟩ := hw
  have hw := hw_y9
  obtain ⟨hq10, hw⟩ := hw
  refine r_callV (ci := 11) (rest := []) (As := []) C sg_J9_clear rfl rfl q1365 q1366 q1367 q89 q1368 rfl (Nat.le_of_ble_eq_true rfl) dX1_load_26 rfl hq10 hp5 hp6 (cj_J9_clear G l y9 h7 _ hw) (k_V (fun h12 hw => ?_))
  refine r_aload_n C rfl 0 rfl dX1_load_29 ?_
  refine r_gfR (k := 2) C kX1 (by decide) (Or.inl q346) (Or.inl rfl) dX1_load_30 hw (fun v13 hw => ?_)
  refine r_iconst (v := (0 : Int32)) C (by decide) dX1_load_33 (r_null C dX1_load_34 ?_)
  obtain ⟨y15, rfl, hw_y15⟩ := hw
  have hw := hw_y15
  refine r_aastore (t := 4) (x := none) C (by decide) rfl dX1_load_35 hw (fun h14 hw => ?_)
  refine r_aload_n C rfl 0 rfl dX1_load_36 ?_
  refine r_gfR (k := 2) C kX1 (by decide) (Or.inl q346) (Or.inl rfl) dX1_load_37 hw (fun v16 hw => ?_)
  refine r_iconst (v := (1 : Int32)) C (by decide) dX1_load_40 (r_null C dX1_load_41 ?_)
  obtain ⟨y18, rfl, hw_y18⟩ := hw
  have hw := hw_y18
  refine r_aastore (t := 4) (x := none) C (by decide) rfl dX1_load_42 hw (fun h17 hw => ?_)
  refine r_aload_n C rfl 0 rfl dX1_load_43 ?_
  refine r_gfI (k := 6) C kX1 (by decide) (Or.inl q350) (Or.inl rfl) dX1_load_44 hw (fun v19 hw => ?_)
  exact r_ireturn C dX1_load_47 hp5 hp6 ⟨_, rfl, hw⟩
theorem sg_X1_load : ySg yX1_load 0 = true := by decide +kernel
theorem c_X1_load (G : gT) (l : Launch) (mc ms : Nat) (a0 : Nat) (h : Hp) (X : String → Hp → Prop) (Q : Int32 → Hp → Prop) (hst : l.stackTraces = false) (hw : w_X1_load mc ms a0 h X Q) : CtX G l yX1_load (ws_ yX1_load cX1_load 2 (some .int)) 11 286 mc ms [.ref a0] h (pI Q) X := by
  refine CtX.of (own := RX1) hst (by decide +kernel) rfl (show (_ : Nat) ≤ _ from Nat.le_of_ble_eq_true rfl) (fun V C => ?_)
  show V h 0 0 0 [(0, .ref a0)] []
  unfold w_X1_load at hw
  refine r_aload_n C rfl 0 rfl dX1_load_0 ?_
  obtain ⟨hq20, hw⟩ := hw
  obtain ⟨k23, k24, hp25, hp26, hw⟩ := hw
  refine r_callV (ci := 0) (rest := []) (As := []) C sg_X1_read rfl rfl q374 q376 qs3 q77 q377 rfl (Nat.le_of_ble_eq_true rfl) dX1_load_1 rfl hq20 hp25 hp26 (c_X1_read G l k23 k24 a0 h _ hw) (k_R (fun r21 h22 hw => ?_))
  refine r_astore_nO (x := r21) (L' := [(1, va_rf r21), (0, .ref a0)]) C rfl (by decide) rfl dX1_load_4 (r_aload_nO C rfl 0 rfl dX1_load_5 ?_)
  refine r_ifnull (x := r21) (tgt := 13) C (by decide) dX1_load_6 (fun hc28 => ?_) (fun y27 hc28 => ?_)
  · have hw_y27 := hw.1 hc28
    subst hc28
    have hw := hw_y27
    refine r_iconst (v := (0 : Int32)) C (by decide) dX1_load_13 ?_
    exact r_sub C [1, 0] rfl (b_X1_load_14 C _ _ _ _ _ _ hp25 hp26 hw)
  · have hw_y27 := hw.2 y27 hc28
    subst hc28
    have hw := hw_y27
    refine r_iconst (v := (1 : Int32)) C (by decide) dX1_load_9 (r_goto (tgt := 14) C (by decide) dX1_load_10 ?_)
    exact r_sub C [1, 0] rfl (b_X1_load_14 C _ _ _ _ _ _ hp25 hp26 hw)
def S_X1_fakeCharters_12 (mc ms : Nat) (Q : Int32 → Hp → Prop) (LA12 : Hp → Nat → Nat → Nat → (Option Nat) → Int32 → Int32 → Prop) (h : Hp) (c : Nat) (n : Nat) (x0 : Nat) (x1 : Option Nat) (x2 : Int32) (x3 : Int32) : Prop :=
  nn x1 (fun y1 => alen h y1 (fun v2 => (v2 ≤ x3 → w_J24_bitCount x2 h (fun r4 h5 => Q r4 h5)) ∧ (¬ v2 ≤ x3 → gfR h x0 0 0 (fun v6 => nn v6 (fun y7 => gfR h y7 1 2 (fun v8 => nn v8 (fun y9 => hasC h y9 8 ∧ (wj_J2_get y9 x3 h (fun r11 h12 => (∀ z13 : Nat, r11 = some z13 → hasC h12 z13 5) ∧ (nn r11 (fun y15 => gfI h12 y15 5 5 (fun v16 => rdI h12 y1 x3 (fun v17 => LA12 h12 c n x0 (some y1) (x2 ||| (if v17 ≤ 0 then (0 : Int32) else (if v16 = (-1 : Int32) then (0 : Int32) else (1 : Int32) <<< (v16 &&& 31)))) (x3 + (1 : Int32)))))))))))))))
def B_X1_fakeCharters_12 (mc ms : Nat) (Q : Int32 → Hp → Prop) : Nat → Hp → Nat → Nat → Nat → (Option Nat) → Int32 → Int32 → Prop
  | 0, _, _, _, _, _, _, _ => False
  | k + 1, h, c, n, x0, x1, x2, x3 => S_X1_fakeCharters_12 mc ms Q (B_X1_fakeCharters_12 mc ms Q k) h c n x0 x1 x2 x3
def w_X1_fakeCharters (mc ms : Nat) (a0 : Nat) (h : Hp) (Q : Int32 → Hp → Prop) : Prop :=
  gfR h a0 0 0 (fun v22 => nn v22 (fun y23 => hasC h y23 1 ∧ (∃ k27 k28 : Nat, 0 + k27 ≤ mc ∧ 0 + k28 ≤ ms ∧ (w_X2_fakes k27 k28 y23 h (fun r25 h26 => ∃ k9 : Nat, B_X1_fakeCharters_12 mc ms Q k9 h26 (0 + k27) (0 + k28) a0 r25 (0 : Int32) (0 : Int32))))))
theorem s_X1_fakeCharters_12 {G : gT} {l : Launch} {V : Hp → Nat → Nat → Nat → List (Nat × Value) → List Value → Prop} {mc ms : Nat} {Q : Int32 → Hp → Prop} (C : Cx G l V cX1_fakeCharters 5 RX1 12 262 mc ms (pI Q) none (some .int) [] false) (LA12 : Hp → Nat → Nat → Nat → (Option Nat) → Int32 → Int32 → Prop) (hLA12 : ∀ (h : Hp) (c : Nat) (n : Nat) (x0 : Nat) (x1 : Option Nat) (x2 : Int32) (x3 : Int32), c ≤ mc → n ≤ ms → LA12 h c n x0 x1 x2 x3 → V h c n 12 [(0, .ref x0), (1, va_rf x1), (2, .int x2), (3, .int x3)] []) (h : Hp) (c : Nat) (n : Nat) (x0 : Nat) (x1 : Option Nat) (x2 : Int32) (x3 : Int32) (b1 : c ≤ mc) (b2 : n ≤ ms) (hw : S_X1_fakeCharters_12 mc ms Q LA12 h c n x0 x1 x2 x3) : V h c n 12 [(0, .ref x0), (1, va_rf x1), (2, .int x2), (3, .int x3)] [] := by
  unfold S_X1_fakeCharters_12 at hw
  refine r_iload_n C rfl 3 rfl dX1_fakeCharters_12 (r_aload_nO C rfl 1 rfl dX1_fakeCharters_13 ?_)
  obtain ⟨y1, rfl, hw_y1⟩ := hw
  have hw := hw_y1
  refine r_alen C dX1_fakeCharters_14 hw (fun v2 hw => ?_)
  refine r_icmp_ge (tgt := 68) C (by decide) dX1_fakeCharters_15 (fun hc3 => ?_) (fun hc3 => ?_)
  · have hw := hw.1 hc3
    refine r_iload_n C rfl 2 rfl dX1_fakeCharters_68 ?_
    refine r_callS (rest := []) (As := [.int x2]) C sg_J24_bitCount q1535 q1536 q105 q1537 rfl (Nat.le_of_ble_eq_true rfl) dX1_fakeCharters_69 rfl b1 b2 (c_J24_bitCount G l x2 h _ hw) (k_I (fun r4 h5 hw => ?_))
    exact r_ireturn C dX1_fakeCharters_72 b1 b2 ⟨_, rfl, hw⟩
  · have hw := hw.2 hc3
    refine r_aload_n C rfl 0 rfl dX1_fakeCharters_18 ?_
    refine r_gfR (k := 0) C kX1 (by decide) (Or.inl q344) (Or.inl rfl) dX1_fakeCharters_19 hw (fun v6 hw => ?_)
    obtain ⟨y7, rfl, hw_y7⟩ := hw
    have hw := hw_y7
    refine r_gfR (k := 2) C kX2 (by decide) (Or.inr ⟨_, (List.mem_of_getElem? (i := 5) rfl)⟩) (Or.inl rfl) dX1_fakeCharters_22 hw (fun v8 hw => ?_)
    refine r_iload_n C rfl 3 rfl dX1_fakeCharters_25 ?_
    obtain ⟨y9, rfl, hw_y9⟩ := hw
    have hw := hw_y9
    obtain ⟨hq10, hw⟩ := hw
    refine r_callF (ci := 8) (rest := []) (As := [.int x3]) C (x := ⟨"java/util/List", "get", "(I)Ljava/lang/Object;"⟩) (show ySg ⟨"java/util/List", "get", "(I)Ljava/lang/Object;"⟩ 1 = true by decide +kernel) rfl q887 q453 q455 q81 q457 (List.mem_of_getElem? (i := 6) rfl) rfl (Nat.le_of_ble_eq_true rfl) dX1_fakeCharters_26 rfl hq10 b1 b2 (cj_J2_get G l y9 x3 h _ hw) (k_R (fun r11 h12 hw => ?_))
    obtain ⟨e14, hw⟩ := hw
    refine r_cast (x := r11) C (ci := 5) rfl q1534 dX1_fakeCharters_31 e14 ?_
    obtain ⟨y15, rfl, hw_y15⟩ := hw
    have hw := hw_y15
    refine r_gfI (k := 5) C kX6 (by decide) (Or.inr ⟨_, (List.mem_of_getElem? (i := 40) rfl)⟩) (Or.inl rfl) dX1_fakeCharters_34 hw (fun v16 hw => ?_)
    refine r_istore (L' := [(4, .int v16), (0, .ref x0), (1, .ref y1), (2, .int x2), (3, .int x3)]) C (by decide) rfl dX1_fakeCharters_37 (r_iload_n C rfl 3 rfl dX1_fakeCharters_39 (r_aload_n C rfl 2 rfl dX1_fakeCharters_40 (r_iload_n C rfl 4 rfl dX1_fakeCharters_41 ?_)))
    refine r_iaload C dX1_fakeCharters_42 hw (fun v17 hw => ?_)
    have hJ : V h12 c n 60 [(0, .ref x0), (1, .ref y1), (3, .int x3)] [.int (if v17 ≤ 0 then (0 : Int32) else (if v16 = (-1 : Int32) then (0 : Int32) else (1 : Int32) <<< (v16 &&& 31))), .int x2] := by
      refine r_ior C dX1_fakeCharters_60 (r_istore_n (L' := [(2, .int (x2 ||| (if v17 ≤ 0 then (0 : Int32) else (if v16 = (-1 : Int32) then (0 : Int32) else (1 : Int32) <<< (v16 &&& 31))))), (0, .ref x0), (1, .ref y1), (3, .int x3)]) C rfl (by decide) rfl dX1_fakeCharters_61 (r_iinc (v := x3 + (1 : Int32)) (L' := [(3, .int (x3 + (1 : Int32))), (2, .int (x2 ||| (if v17 ≤ 0 then (0 : Int32) else (if v16 = (-1 : Int32) then (0 : Int32) else (1 : Int32) <<< (v16 &&& 31))))), (0, .ref x0), (1, .ref y1)]) C (u := 3) rfl (by rfl) (by decide) rfl dX1_fakeCharters_62 (r_goto (tgt := 12) C (by decide) dX1_fakeCharters_65 ?_)))
      exact r_sub C [2, 3, 1, 0] rfl (hLA12 _ _ _ _ _ _ _ b1 b2 hw)
    refine r_if_le (tgt := 59) C (by decide) dX1_fakeCharters_43 (fun hc18 => ?_) (fun hc18 => ?_)
    · have hJ19 := hJ
      try simp only [if_pos hc18] at hJ19
      refine r_iconst (v := (0 : Int32)) C (by decide) dX1_fakeCharters_59 ?_
      exact r_sub C [1, 2, 4] rfl hJ19
    · have hJ19 := hJ
      try simp only [if_neg hc18] at hJ19
      refine r_iload C 0 rfl dX1_fakeCharters_46 (r_iconst (v := (-1 : Int32)) C (by decide) dX1_fakeCharters_48 ?_)
      refine r_icmp_eq (tgt := 59) C (by decide) dX1_fakeCharters_49 (fun hc20 => ?_) (fun hc20 => ?_)
      · have hJ21 := hJ19
        try simp only [if_pos hc20] at hJ21
        refine r_iconst (v := (0 : Int32)) C (by decide) dX1_fakeCharters_59 ?_
        exact r_sub C [1, 2, 4] rfl hJ21
      · have hJ21 := hJ19
        try simp only [if_neg hc20] at hJ21
        refine r_iconst (v := (1 : Int32)) C (by decide) dX1_fakeCharters_52 (r_iload C 0 rfl dX1_fakeCharters_53 (r_ishl C dX1_fakeCharters_55 (r_goto (tgt := 60) C (by decide) dX1_fakeCharters_56 ?_)))
        exact r_sub C [1, 2, 4] rfl hJ21
theorem b_X1_fakeCharters_12 {G : gT} {l : Launch} {V : Hp → Nat → Nat → Nat → List (Nat × Value) → List Value → Prop} {mc ms : Nat} {Q : Int32 → Hp → Prop} (C : Cx G l V cX1_fakeCharters 5 RX1 12 262 mc ms (pI Q) none (some .int) [] false) : ∀ (k : Nat) (h : Hp) (c : Nat) (n : Nat) (x0 : Nat) (x1 : Option Nat) (x2 : Int32) (x3 : Int32), c ≤ mc → n ≤ ms → B_X1_fakeCharters_12 mc ms Q k h c n x0 x1 x2 x3 → V h c n 12 [(0, .ref x0), (1, va_rf x1), (2, .int x2), (3, .int x3)] [] := by
  intro k
  induction k with
  | zero =>
    intro h c n x0 x1 x2 x3 b1 b2 hw
    exact hw.elim
  | succ k ih =>
    intro h c n x0 x1 x2 x3 b1 b2 hw
    exact s_X1_fakeCharters_12 C _ (fun h c n x0 x1 x2 x3 b1 b2 hw => ih h c n x0 x1 x2 x3 b1 b2 hw) h c n x0 x1 x2 x3 b1 b2 hw
theorem sg_X1_fakeCharters : ySg yX1_fakeCharters 0 = true := by decide +kernel
theorem c_X1_fakeCharters (G : gT) (l : Launch) (mc ms : Nat) (a0 : Nat) (h : Hp) (Q : Int32 → Hp → Prop) (hw : w_X1_fakeCharters mc ms a0 h Q) : Ct G l yX1_fakeCharters (ws_ yX1_fakeCharters cX1_fakeCharters 5 (some .int)) 12 262 mc ms [.ref a0] h (pI Q) := by
  refine Ct.of (own := RX1) false (by decide +kernel) rfl (show (_ : Nat) ≤ _ from Nat.le_of_ble_eq_true rfl) (fun z => by cases z) (fun V C => ?_)
  show V h 0 0 0 [(0, .ref a0)] []
  unfold w_X1_fakeCharters at hw
  refine r_aload_n C rfl 0 rfl dX1_fakeCharters_0 ?_
  refine r_gfR (k := 0) C kX1 (by decide) (Or.inl q344) (Or.inl rfl) dX1_fakeCharters_1 hw (fun v22 hw => ?_)
  obtain ⟨y23, rfl, hw_y23⟩ := hw
  have hw := hw_y23
  obtain ⟨hq24, hw⟩ := hw
  obtain ⟨k27, k28, hp29, hp30, hw⟩ := hw
  refine r_callV (ci := 1) (rest := []) (As := []) C sg_X2_fakes rfl rfl q1533 q1384 q1385 q78 q1386 rfl (Nat.le_of_ble_eq_true rfl) dX1_fakeCharters_4 rfl hq24 hp29 hp30 (c_X2_fakes G l k27 k28 y23 h _ hw) (k_R (fun r25 h26 hw => ?_))
  refine r_astore_nO (x := r25) (L' := [(1, va_rf r25), (0, .ref a0)]) C rfl (by decide) rfl dX1_fakeCharters_7 (r_iconst (v := (0 : Int32)) C (by decide) dX1_fakeCharters_8 (r_istore_n (L' := [(2, .int (0 : Int32)), (1, va_rf r25), (0, .ref a0)]) C rfl (by decide) (by rcases r25 with _ | _ <;> rfl) dX1_fakeCharters_9 (r_iconst (v := (0 : Int32)) C (by decide) dX1_fakeCharters_10 (r_istore_n (L' := [(3, .int (0 : Int32)), (2, .int (0 : Int32)), (1, va_rf r25), (0, .ref a0)]) C rfl (by decide) rfl dX1_fakeCharters_11 ?_))))
  obtain ⟨k9, hw⟩ := hw
  exact r_sub C [3, 2, 1, 0] rfl (b_X1_fakeCharters_12 C _ _ _ _ _ _ _ _ hp29 hp30 hw)
def w_X1_about (mc ms : Nat) (a0 : Nat) (i1 : Int32) (h : Hp) (X : String → Hp → Prop) (Q : Int32 → Hp → Prop) : Prop :=
  (i1.toInt < 0 ∨ 8 < i1.toInt → 0 + 1 ≤ mc ∧ 0 + 6 ≤ ms ∧ X "java/lang/IllegalArgumentException" h) ∧ (i1 = (0 : Int32) → gfR h a0 0 0 (fun v1 => nn v1 (fun y2 => gfR h y2 1 0 (fun v3 => nn v3 (fun y4 => hasC h y4 8 ∧ (wj_J2_size y4 h (fun r6 h7 => Q r6 h7))))))) ∧ (i1 = (1 : Int32) → gfR h a0 0 0 (fun v8 => nn v8 (fun y9 => gfR h y9 1 1 (fun v10 => nn v10 (fun y11 => hasC h y11 8 ∧ (wj_J2_size y11 h (fun r13 h14 => Q r13 h14))))))) ∧ (i1 = (2 : Int32) → gfR h a0 0 0 (fun v15 => nn v15 (fun y16 => gfR h y16 1 2 (fun v17 => nn v17 (fun y18 => hasC h y18 8 ∧ (wj_J2_size y18 h (fun r20 h21 => Q r20 h21))))))) ∧ (i1 = (3 : Int32) → gfR h a0 0 0 (fun v22 => nn v22 (fun y23 => hasC h y23 1 ∧ (∃ k27 k28 : Nat, 0 + k27 ≤ mc ∧ 0 + k28 ≤ ms ∧ (w_X2_many k27 k28 y23 (-1 : Int32) h (fun r25 h26 => Q r25 h26)))))) ∧ (i1 = (4 : Int32) → gfR h a0 0 0 (fun v31 => nn v31 (fun y32 => hasC h y32 1 ∧ (∃ k36 k37 : Nat, 0 + k36 ≤ mc ∧ 0 + k37 ≤ ms ∧ (w_X2_many k36 k37 y32 (1 : Int32) h (fun r34 h35 => Q r34 h35)))))) ∧ (i1 = (5 : Int32) → gfR h a0 0 0 (fun v40 => nn v40 (fun y41 => hasC h y41 1 ∧ (∃ k45 k46 : Nat, 0 + k45 ≤ mc ∧ 0 + k46 ≤ ms ∧ (w_X2_on k45 k46 y41 (-1 : Int32) h (fun r43 h44 => Q r43 h44)))))) ∧ (i1 = (6 : Int32) → hasC h a0 0 ∧ (∃ k52 k53 : Nat, 0 + k52 ≤ mc ∧ 0 + k53 ≤ ms ∧ (w_X1_fakeCharters k52 k53 a0 h (fun r50 h51 => Q r50 h51)))) ∧ (i1 = (7 : Int32) → gfR h a0 0 0 (fun v56 => nn v56 (fun y57 => hasC h y57 1 ∧ (∃ k61 k62 : Nat, 0 + k61 ≤ mc ∧ 0 + k62 ≤ ms ∧ (w_X2_onShelves k61 k62 y57 h (fun r59 h60 => Q r59 h60)))))) ∧ (i1 = (8 : Int32) → gfR h a0 0 0 (fun v65 => nn v65 (fun y66 => hasC h y66 1 ∧ (∃ k70 k71 : Nat, 0 + k70 ≤ mc ∧ 0 + k71 ≤ ms ∧ (w_X2_badShelves k70 k71 y66 h (fun r68 h69 => Q r68 h69))))))
theorem sg_X1_about : ySg yX1_about 1 = true := by decide +kernel
theorem c_X1_about (G : gT) (l : Launch) (mc ms : Nat) (a0 : Nat) (i1 : Int32) (h : Hp) (X : String → Hp → Prop) (Q : Int32 → Hp → Prop) (hst : l.stackTraces = false) (hw : w_X1_about mc ms a0 i1 h X Q) : CtX G l yX1_about (ws_ yX1_about cX1_about 2 (some .int)) 13 288 mc ms [.ref a0, .int i1] h (pI Q) X := by
  refine CtX.of (own := RX1) hst (by decide +kernel) rfl (show (_ : Nat) ≤ _ from Nat.le_of_ble_eq_true rfl) (fun V C => ?_)
  show V h 0 0 0 [(0, .ref a0), (1, .int i1)] []
  unfold w_X1_about at hw
  refine r_iload_n C rfl 1 rfl dX1_about_0 ?_
  by_cases hd74 : i1.toInt < 0 ∨ 8 < i1.toInt
  · have hw := hw.1 hd74
    refine r_tableOut (tgt := 139) C hd74 (by decide) dX1_about_1 ?_
    exact r_throw0 C tW_IAE dX1_about_139 dX1_about_142 dX1_about_143 dX1_about_146 (by decide) (by simp [Value.category]) hw.1 hw.2.1 hw.2.2
  · obtain ⟨k9, hk9, e9⟩ := tb_k 9 (by decide) hd74
    match k9, hk9, e9 with
    | 0, _, e9 =>
      have e9 : i1 = (0 : Int32) := e9.trans (by decide)
      have hw := hw.2.1 e9
      refine r_tableAt (k := (0 : Int32)) (off := 51) (tgt := 52) C e9 (by decide) (by decide) (by decide) (by decide) dX1_about_1 ?_
      refine r_aload_n C rfl 0 rfl dX1_about_52 ?_
      refine r_gfR (k := 0) C kX1 (by decide) (Or.inl q344) (Or.inl rfl) dX1_about_53 hw (fun v1 hw => ?_)
      obtain ⟨y2, rfl, hw_y2⟩ := hw
      have hw := hw_y2
      refine r_gfR (k := 0) C kX2 (by decide) (Or.inr ⟨_, (List.mem_of_getElem? (i := 3) rfl)⟩) (Or.inl rfl) dX1_about_56 hw (fun v3 hw => ?_)
      obtain ⟨y4, rfl, hw_y4⟩ := hw
      have hw := hw_y4
      obtain ⟨hq5, hw⟩ := hw
      refine r_callF (ci := 8) (rest := []) (As := []) C (x := ⟨"java/util/List", "size", "()I"⟩) (show ySg ⟨"java/util/List", "size", "()I"⟩ 0 = true by decide +kernel) rfl q842 q414 q416 q81 q418 (List.mem_of_getElem? (i := 2) rfl) rfl (Nat.le_of_ble_eq_true rfl) dX1_about_59 rfl hq5 (Nat.zero_le _) (Nat.zero_le _) (cj_J2_size G l y4 h _ hw) (k_I (fun r6 h7 hw => ?_))
      exact r_ireturn C dX1_about_64 (Nat.zero_le _) (Nat.zero_le _) ⟨_, rfl, hw⟩
    | 1, _, e9 =>
      have e9 : i1 = (1 : Int32) := e9.trans (by decide)
      have hw := hw.2.2.1 e9
      refine r_tableAt (k := (1 : Int32)) (off := 64) (tgt := 65) C e9 (by decide) (by decide) (by decide) (by decide) dX1_about_1 ?_
      refine r_aload_n C rfl 0 rfl dX1_about_65 ?_
      refine r_gfR (k := 0) C kX1 (by decide) (Or.inl q344) (Or.inl rfl) dX1_about_66 hw (fun v8 hw => ?_)
      obtain ⟨y9, rfl, hw_y9⟩ := hw
      have hw := hw_y9
      refine r_gfR (k := 1) C kX2 (by decide) (Or.inr ⟨_, (List.mem_of_getElem? (i := 4) rfl)⟩) (Or.inl rfl) dX1_about_69 hw (fun v10 hw => ?_)
      obtain ⟨y11, rfl, hw_y11⟩ := hw
      have hw := hw_y11
      obtain ⟨hq12, hw⟩ := hw
      refine r_callF (ci := 8) (rest := []) (As := []) C (x := ⟨"java/util/List", "size", "()I"⟩) (show ySg ⟨"java/util/List", "size", "()I"⟩ 0 = true by decide +kernel) rfl q842 q414 q416 q81 q418 (List.mem_of_getElem? (i := 2) rfl) rfl (Nat.le_of_ble_eq_true rfl) dX1_about_72 rfl hq12 (Nat.zero_le _) (Nat.zero_le _) (cj_J2_size G l y11 h _ hw) (k_I (fun r13 h14 hw => ?_))
      exact r_ireturn C dX1_about_77 (Nat.zero_le _) (Nat.zero_le _) ⟨_, rfl, hw⟩
    | 2, _, e9 =>
      have e9 : i1 = (2 : Int32) := e9.trans (by decide)
      have hw := hw.2.2.2.1 e9
      refine r_tableAt (k := (2 : Int32)) (off := 77) (tgt := 78) C e9 (by decide) (by decide) (by decide) (by decide) dX1_about_1 ?_
      refine r_aload_n C rfl 0 rfl dX1_about_78 ?_
      refine r_gfR (k := 0) C kX1 (by decide) (Or.inl q344) (Or.inl rfl) dX1_about_79 hw (fun v15 hw => ?_)
      obtain ⟨y16, rfl, hw_y16⟩ := hw
      have hw := hw_y16
      refine r_gfR (k := 2) C kX2 (by decide) (Or.inr ⟨_, (List.mem_of_getElem? (i := 5) rfl)⟩) (Or.inl rfl) dX1_about_82 hw (fun v17 hw => ?_)
      obtain ⟨y18, rfl, hw_y18⟩ := hw
      have hw := hw_y18
      obtain ⟨hq19, hw⟩ := hw
      refine r_callF (ci := 8) (rest := []) (As := []) C (x := ⟨"java/util/List", "size", "()I"⟩) (show ySg ⟨"java/util/List", "size", "()I"⟩ 0 = true by decide +kernel) rfl q842 q414 q416 q81 q418 (List.mem_of_getElem? (i := 2) rfl) rfl (Nat.le_of_ble_eq_true rfl) dX1_about_85 rfl hq19 (Nat.zero_le _) (Nat.zero_le _) (cj_J2_size G l y18 h _ hw) (k_I (fun r20 h21 hw => ?_))
      exact r_ireturn C dX1_about_90 (Nat.zero_le _) (Nat.zero_le _) ⟨_, rfl, hw⟩
    | 3, _, e9 =>
      have e9 : i1 = (3 : Int32) := e9.trans (by decide)
      have hw := hw.2.2.2.2.1 e9
      refine r_tableAt (k := (3 : Int32)) (off := 90) (tgt := 91) C e9 (by decide) (by decide) (by decide) (by decide) dX1_about_1 ?_
      refine r_aload_n C rfl 0 rfl dX1_about_91 ?_
      refine r_gfR (k := 0) C kX1 (by decide) (Or.inl q344) (Or.inl rfl) dX1_about_92 hw (fun v22 hw => ?_)
      refine r_iconst (v := (-1 : Int32)) C (by decide) dX1_about_95 ?_
      obtain ⟨y23, rfl, hw_y23⟩ := hw
      have hw := hw_y23
      obtain ⟨hq24, hw⟩ := hw
      obtain ⟨k27, k28, hp29, hp30, hw⟩ := hw
      refine r_callV (ci := 1) (rest := []) (As := [.int (-1 : Int32)]) C sg_X2_many rfl rfl q1379 q1380 q1381 q78 q1382 rfl (Nat.le_of_ble_eq_true rfl) dX1_about_96 rfl hq24 hp29 hp30 (c_X2_many G l k27 k28 y23 (-1 : Int32) h _ hw) (k_I (fun r25 h26 hw => ?_))
      exact r_ireturn C dX1_about_99 hp29 hp30 ⟨_, rfl, hw⟩
    | 4, _, e9 =>
      have e9 : i1 = (4 : Int32) := e9.trans (by decide)
      have hw := hw.2.2.2.2.2.1 e9
      refine r_tableAt (k := (4 : Int32)) (off := 99) (tgt := 100) C e9 (by decide) (by decide) (by decide) (by decide) dX1_about_1 ?_
      refine r_aload_n C rfl 0 rfl dX1_about_100 ?_
      refine r_gfR (k := 0) C kX1 (by decide) (Or.inl q344) (Or.inl rfl) dX1_about_101 hw (fun v31 hw => ?_)
      refine r_iconst (v := (1 : Int32)) C (by decide) dX1_about_104 ?_
      obtain ⟨y32, rfl, hw_y32⟩ := hw
      have hw := hw_y32
      obtain ⟨hq33, hw⟩ := hw
      obtain ⟨k36, k37, hp38, hp39, hw⟩ := hw
      refine r_callV (ci := 1) (rest := []) (As := [.int (1 : Int32)]) C sg_X2_many rfl rfl q1379 q1380 q1381 q78 q1382 rfl (Nat.le_of_ble_eq_true rfl) dX1_about_105 rfl hq33 hp38 hp39 (c_X2_many G l k36 k37 y32 (1 : Int32) h _ hw) (k_I (fun r34 h35 hw => ?_))
      exact r_ireturn C dX1_about_108 hp38 hp39 ⟨_, rfl, hw⟩
    | 5, _, e9 =>
      have e9 : i1 = (5 : Int32) := e9.trans (by decide)
      have hw := hw.2.2.2.2.2.2.1 e9
      refine r_tableAt (k := (5 : Int32)) (off := 108) (tgt := 109) C e9 (by decide) (by decide) (by decide) (by decide) dX1_about_1 ?_
      refine r_aload_n C rfl 0 rfl dX1_about_109 ?_
      refine r_gfR (k := 0) C kX1 (by decide) (Or.inl q344) (Or.inl rfl) dX1_about_110 hw (fun v40 hw => ?_)
      refine r_iconst (v := (-1 : Int32)) C (by decide) dX1_about_113 ?_
      obtain ⟨y41, rfl, hw_y41⟩ := hw
      have hw := hw_y41
      obtain ⟨hq42, hw⟩ := hw
      obtain ⟨k45, k46, hp47, hp48, hw⟩ := hw
      refine r_callV (ci := 1) (rest := []) (As := [.int (-1 : Int32)]) C sg_X2_on rfl rfl q1528 q1044 q1045 q78 q1046 rfl (Nat.le_of_ble_eq_true rfl) dX1_about_114 rfl hq42 hp47 hp48 (c_X2_on G l k45 k46 y41 (-1 : Int32) h _ hw) (k_I (fun r43 h44 hw => ?_))
      exact r_ireturn C dX1_about_117 hp47 hp48 ⟨_, rfl, hw⟩
    | 6, _, e9 =>
      have e9 : i1 = (6 : Int32) := e9.trans (by decide)
      have hw := hw.2.2.2.2.2.2.2.1 e9
      refine r_tableAt (k := (6 : Int32)) (off := 117) (tgt := 118) C e9 (by decide) (by decide) (by decide) (by decide) dX1_about_1 ?_
      refine r_aload_n C rfl 0 rfl dX1_about_118 ?_
      obtain ⟨hq49, hw⟩ := hw
      obtain ⟨k52, k53, hp54, hp55, hw⟩ := hw
      refine r_callV (ci := 0) (rest := []) (As := []) C sg_X1_fakeCharters rfl rfl q1529 q1531 qs32 q77 q1532 rfl (Nat.le_of_ble_eq_true rfl) dX1_about_119 rfl hq49 hp54 hp55 (c_X1_fakeCharters G l k52 k53 a0 h _ hw) (k_I (fun r50 h51 hw => ?_))
      exact r_ireturn C dX1_about_122 hp54 hp55 ⟨_, rfl, hw⟩
    | 7, _, e9 =>
      have e9 : i1 = (7 : Int32) := e9.trans (by decide)
      have hw := hw.2.2.2.2.2.2.2.2.1 e9
      refine r_tableAt (k := (7 : Int32)) (off := 122) (tgt := 123) C e9 (by decide) (by decide) (by decide) (by decide) dX1_about_1 ?_
      refine r_aload_n C rfl 0 rfl dX1_about_123 ?_
      refine r_gfR (k := 0) C kX1 (by decide) (Or.inl q344) (Or.inl rfl) dX1_about_124 hw (fun v56 hw => ?_)
      obtain ⟨y57, rfl, hw_y57⟩ := hw
      have hw := hw_y57
      obtain ⟨hq58, hw⟩ := hw
      obtain ⟨k61, k62, hp63, hp64, hw⟩ := hw
      refine r_callV (ci := 1) (rest := []) (As := []) C sg_X2_onShelves rfl rfl q1541 q1542 q1543 q78 q1544 rfl (Nat.le_of_ble_eq_true rfl) dX1_about_127 rfl hq58 hp63 hp64 (c_X2_onShelves G l k61 k62 y57 h _ hw) (k_I (fun r59 h60 hw => ?_))
      exact r_ireturn C dX1_about_130 hp63 hp64 ⟨_, rfl, hw⟩
    | 8, _, e9 =>
      have e9 : i1 = (8 : Int32) := e9.trans (by decide)
      have hw := hw.2.2.2.2.2.2.2.2.2 e9
      refine r_tableAt (k := (8 : Int32)) (off := 130) (tgt := 131) C e9 (by decide) (by decide) (by decide) (by decide) dX1_about_1 ?_
      refine r_aload_n C rfl 0 rfl dX1_about_131 ?_
      refine r_gfR (k := 0) C kX1 (by decide) (Or.inl q344) (Or.inl rfl) dX1_about_132 hw (fun v65 hw => ?_)
      obtain ⟨y66, rfl, hw_y66⟩ := hw
      have hw := hw_y66
      obtain ⟨hq67, hw⟩ := hw
      obtain ⟨k70, k71, hp72, hp73, hw⟩ := hw
      refine r_callV (ci := 1) (rest := []) (As := []) C sg_X2_badShelves rfl rfl q1546 q1547 q1548 q78 q1549 rfl (Nat.le_of_ble_eq_true rfl) dX1_about_135 rfl hq67 hp72 hp73 (c_X2_badShelves G l k70 k71 y66 h _ hw) (k_I (fun r68 h69 hw => ?_))
      exact r_ireturn C dX1_about_138 hp72 hp73 ⟨_, rfl, hw⟩
    | k9 + 9, hk9, _ => exact absurd hk9 (by omega)
def w_X1_exists (mc ms : Nat) (b0 : Bool) (h : Hp) (X : String → Hp → Prop) (Q : Hp → Prop) : Prop :=
  (b0 = true → Q h) ∧ (b0 = false → 0 + 1 ≤ mc ∧ 0 + 6 ≤ ms ∧ X "java/lang/IndexOutOfBoundsException" h)
theorem sg_X1_exists : ySg yX1_exists 1 = true := by decide +kernel
theorem c_X1_exists (G : gT) (l : Launch) (mc ms : Nat) (b0 : Bool) (h : Hp) (X : String → Hp → Prop) (Q : Hp → Prop) (hst : l.stackTraces = false) (hw : w_X1_exists mc ms b0 h X Q) : CtX G l yX1_exists (ws_ yX1_exists cX1_exists 1 (none)) 6 90 mc ms [.int (bI b0)] h (pV Q) X := by
  refine CtX.of (own := RX1) hst (by decide +kernel) rfl (show (_ : Nat) ≤ _ from Nat.le_of_ble_eq_true rfl) (fun V C => ?_)
  show V h 0 0 0 [(0, .int (bI b0))] []
  unfold w_X1_exists at hw
  refine r_iload_n C rfl 0 rfl dX1_exists_0 ?_
  refine r_if_ne_b (tgt := 12) C (by decide) dX1_exists_1 (fun hc1 => ?_) (fun hc1 => ?_)
  · have hw := hw.1 hc1
    exact r_return C dX1_exists_12 (Nat.zero_le _) (Nat.zero_le _) ⟨rfl, hw⟩
  · have hw := hw.2 hc1
    exact r_throw0 C tW_IOB dX1_exists_4 dX1_exists_7 dX1_exists_8 dX1_exists_11 (by decide) (by simp [Value.category]) hw.1 hw.2.1 hw.2.2
def w_X1_ofReign (mc ms : Nat) (a0 : Nat) (i1 : Int32) (i2 : Int32) (h : Hp) (X : String → Hp → Prop) (Q : Int32 → Hp → Prop) : Prop :=
  gfR h a0 0 0 (fun v1 => nn v1 (fun y2 => gfR h y2 1 0 (fun v3 => nn v3 (fun y4 => hasC h y4 8 ∧ (wj_J2_size y4 h (fun r6 h7 => w_X1_isIn i1.toInt64 (0 : Int64) ((r6 - (1 : Int32)).toInt64) h7 (fun r8 h9 => ∃ k12 k13 : Nat, 0 + k12 ≤ mc ∧ 0 + k13 ≤ ms ∧ (w_X1_exists k12 k13 r8 h9 X (fun h11 => w_X1_isIn i2.toInt64 (0 : Int64) (2 : Int64) h11 (fun r16 h17 => ∃ k20 k21 : Nat, (0 + k12) + k20 ≤ mc ∧ (0 + k13) + k21 ≤ ms ∧ (w_X1_check k20 k21 r16 h17 X (fun h19 => (¬ i2 = 0 → (¬ i2 = (1 : Int32) → gfR h19 a0 0 0 (fun v26 => nn v26 (fun y27 => gfR h19 y27 1 0 (fun v28 => nn v28 (fun y29 => hasC h19 y29 8 ∧ (wj_J2_get y29 i1 h19 (fun r31 h32 => (∀ z33 : Nat, r31 = some z33 → hasC h32 z33 3) ∧ (nn r31 (fun y35 => gfI h32 y35 3 1 (fun v36 => Q v36 h32)))))))))) ∧ (i2 = (1 : Int32) → gfR h19 a0 0 0 (fun v37 => nn v37 (fun y38 => hasC h19 y38 1 ∧ (w_X2_endOf y38 i1 h19 (fun r40 h41 => Q r40 h41)))))) ∧ (i2 = 0 → gfR h19 a0 0 0 (fun v42 => nn v42 (fun y43 => gfR h19 y43 1 0 (fun v44 => nn v44 (fun y45 => hasC h19 y45 8 ∧ (wj_J2_get y45 i1 h19 (fun r47 h48 => (∀ z49 : Nat, r47 = some z49 → hasC h48 z49 3) ∧ (nn r47 (fun y51 => gfI h48 y51 3 0 (fun v52 => Q v52 h48))))))))))))))))))))))
theorem sg_X1_ofReign : ySg yX1_ofReign 2 = true := by decide +kernel
theorem c_X1_ofReign (G : gT) (l : Launch) (mc ms : Nat) (a0 : Nat) (i1 : Int32) (i2 : Int32) (h : Hp) (X : String → Hp → Prop) (Q : Int32 → Hp → Prop) (hst : l.stackTraces = false) (hw : w_X1_ofReign mc ms a0 i1 i2 h X Q) : CtX G l yX1_ofReign (ws_ yX1_ofReign cX1_ofReign 3 (some .int)) 7 110 mc ms [.ref a0, .int i1, .int i2] h (pI Q) X := by
  refine CtX.of (own := RX1) hst (by decide +kernel) rfl (show (_ : Nat) ≤ _ from Nat.le_of_ble_eq_true rfl) (fun V C => ?_)
  show V h 0 0 0 [(0, .ref a0), (1, .int i1), (2, .int i2)] []
  unfold w_X1_ofReign at hw
  refine r_iload_n C rfl 1 rfl dX1_ofReign_0 (r_i2l C dX1_ofReign_1 (r_lconst (v := (0 : Int64)) C (by decide) dX1_ofReign_2 (r_aload_n C rfl 0 rfl dX1_ofReign_3 ?_)))
  refine r_gfR (k := 0) C kX1 (by decide) (Or.inl q344) (Or.inl rfl) dX1_ofReign_4 hw (fun v1 hw => ?_)
  obtain ⟨y2, rfl, hw_y2⟩ := hw
  have hw := hw_y2
  refine r_gfR (k := 0) C kX2 (by decide) (Or.inr ⟨_, (List.mem_of_getElem? (i := 3) rfl)⟩) (Or.inl rfl) dX1_ofReign_7 hw (fun v3 hw => ?_)
  obtain ⟨y4, rfl, hw_y4⟩ := hw
  have hw := hw_y4
  obtain ⟨hq5, hw⟩ := hw
  refine r_callF (ci := 8) (rest := [.long (0 : Int64), .long i1.toInt64]) (As := []) C (x := ⟨"java/util/List", "size", "()I"⟩) (show ySg ⟨"java/util/List", "size", "()I"⟩ 0 = true by decide +kernel) rfl q842 q414 q416 q81 q418 (List.mem_of_getElem? (i := 2) rfl) rfl (Nat.le_of_ble_eq_true rfl) dX1_ofReign_10 rfl hq5 (Nat.zero_le _) (Nat.zero_le _) (cj_J2_size G l y4 h _ hw) (k_I (fun r6 h7 hw => ?_))
  refine r_iconst (v := (1 : Int32)) C (by decide) dX1_ofReign_15 (r_isub C dX1_ofReign_16 (r_i2l C dX1_ofReign_17 ?_))
  refine r_callS (rest := []) (As := [.long i1.toInt64, .long (0 : Int64), .long ((r6 - (1 : Int32)).toInt64)]) C sg_X1_isIn q399 q400 q77 q401 rfl (Nat.le_of_ble_eq_true rfl) dX1_ofReign_18 rfl (Nat.zero_le _) (Nat.zero_le _) (c_X1_isIn G l i1.toInt64 (0 : Int64) ((r6 - (1 : Int32)).toInt64) h7 _ hw) (k_Z (fun r8 h9 hw => ?_))
  obtain ⟨k12, k13, hp14, hp15, hw⟩ := hw
  refine r_callSX (rest := []) (As := [.int (bI r8)]) C sg_X1_exists q1599 q1600 q77 q1601 rfl (Nat.le_of_ble_eq_true rfl) dX1_ofReign_21 rfl hp14 hp15 (c_X1_exists G l k12 k13 r8 h9 X _ (st_C C) hw) (k_V (fun h11 hw => ?_))
  refine r_iload_n C rfl 2 rfl dX1_ofReign_24 (r_i2l C dX1_ofReign_25 (r_lconst (v := (0 : Int64)) C (by decide) dX1_ofReign_26 (r_ldc2 (v := (2 : Int64)) C q1607 dX1_ofReign_27 ?_)))
  refine r_callS (rest := []) (As := [.long i2.toInt64, .long (0 : Int64), .long (2 : Int64)]) C sg_X1_isIn q399 q400 q77 q401 rfl (Nat.le_of_ble_eq_true rfl) dX1_ofReign_30 rfl hp14 hp15 (c_X1_isIn G l i2.toInt64 (0 : Int64) (2 : Int64) h11 _ hw) (k_Z (fun r16 h17 hw => ?_))
  obtain ⟨k20, k21, hp22, hp23, hw⟩ := hw
  refine r_callSX (rest := []) (As := [.int (bI r16)]) C sg_X1_check q1332 q1333 q77 q1334 rfl (Nat.le_of_ble_eq_true rfl) dX1_ofReign_33 rfl hp22 hp23 (c_X1_check G l k20 k21 r16 h17 X _ (st_C C) hw) (k_V (fun h19 hw => ?_))
  refine r_iload_n C rfl 2 rfl dX1_ofReign_36 ?_
  refine r_if_ne (tgt := 62) C (by decide) dX1_ofReign_37 (fun hc24 => ?_) (fun hc24 => ?_)
  · have hw := hw.1 hc24
    refine r_iload_n C rfl 2 rfl dX1_ofReign_62 (r_iconst (v := (1 : Int32)) C (by decide) dX1_ofReign_63 ?_)
    refine r_icmp_ne (tgt := 78) C (by decide) dX1_ofReign_64 (fun hc25 => ?_) (fun hc25 => ?_)
    · have hw := hw.1 hc25
      refine r_aload_n C rfl 0 rfl dX1_ofReign_78 ?_
      refine r_gfR (k := 0) C kX1 (by decide) (Or.inl q344) (Or.inl rfl) dX1_ofReign_79 hw (fun v26 hw => ?_)
      obtain ⟨y27, rfl, hw_y27⟩ := hw
      have hw := hw_y27
      refine r_gfR (k := 0) C kX2 (by decide) (Or.inr ⟨_, (List.mem_of_getElem? (i := 3) rfl)⟩) (Or.inl rfl) dX1_ofReign_82 hw (fun v28 hw => ?_)
      refine r_iload_n C rfl 1 rfl dX1_ofReign_85 ?_
      obtain ⟨y29, rfl, hw_y29⟩ := hw
      have hw := hw_y29
      obtain ⟨hq30, hw⟩ := hw
      refine r_callF (ci := 8) (rest := []) (As := [.int i1]) C (x := ⟨"java/util/List", "get", "(I)Ljava/lang/Object;"⟩) (show ySg ⟨"java/util/List", "get", "(I)Ljava/lang/Object;"⟩ 1 = true by decide +kernel) rfl q887 q453 q455 q81 q457 (List.mem_of_getElem? (i := 6) rfl) rfl (Nat.le_of_ble_eq_true rfl) dX1_ofReign_86 rfl hq30 hp22 hp23 (cj_J2_get G l y29 i1 h19 _ hw) (k_R (fun r31 h32 hw => ?_))
      obtain ⟨e34, hw⟩ := hw
      refine r_cast (x := r31) C (ci := 3) rfl q1608 dX1_ofReign_91 e34 ?_
      obtain ⟨y35, rfl, hw_y35⟩ := hw
      have hw := hw_y35
      refine r_gfI (k := 1) C kX4 (by decide) (Or.inr ⟨_, (List.mem_of_getElem? (i := 15) rfl)⟩) (Or.inl rfl) dX1_ofReign_94 hw (fun v36 hw => ?_)
      exact r_ireturn C dX1_ofReign_97 hp22 hp23 ⟨_, rfl, hw⟩
    · have hw := hw.2 hc25
      refine r_aload_n C rfl 0 rfl dX1_ofReign_67 ?_
      refine r_gfR (k := 0) C kX1 (by decide) (Or.inl q344) (Or.inl rfl) dX1_ofReign_68 hw (fun v37 hw => ?_)
      refine r_iload_n C rfl 1 rfl dX1_ofReign_71 ?_
      obtain ⟨y38, rfl, hw_y38⟩ := hw
      have hw := hw_y38
      obtain ⟨hq39, hw⟩ := hw
      refine r_callV (ci := 1) (rest := []) (As := [.int i1]) C sg_X2_endOf rfl rfl q1609 q1610 q1611 q78 q1612 rfl (Nat.le_of_ble_eq_true rfl) dX1_ofReign_72 rfl hq39 hp22 hp23 (c_X2_endOf G l y38 i1 h19 _ hw) (k_I (fun r40 h41 hw => ?_))
      refine r_goto (tgt := 97) C (by decide) dX1_ofReign_75 ?_
      exact r_ireturn C dX1_ofReign_97 hp22 hp23 ⟨_, rfl, hw⟩
  · have hw := hw.2 hc24
    refine r_aload_n C rfl 0 rfl dX1_ofReign_40 ?_
    refine r_gfR (k := 0) C kX1 (by decide) (Or.inl q344) (Or.inl rfl) dX1_ofReign_41 hw (fun v42 hw => ?_)
    obtain ⟨y43, rfl, hw_y43⟩ := hw
    have hw := hw_y43
    refine r_gfR (k := 0) C kX2 (by decide) (Or.inr ⟨_, (List.mem_of_getElem? (i := 3) rfl)⟩) (Or.inl rfl) dX1_ofReign_44 hw (fun v44 hw => ?_)
    refine r_iload_n C rfl 1 rfl dX1_ofReign_47 ?_
    obtain ⟨y45, rfl, hw_y45⟩ := hw
    have hw := hw_y45
    obtain ⟨hq46, hw⟩ := hw
    refine r_callF (ci := 8) (rest := []) (As := [.int i1]) C (x := ⟨"java/util/List", "get", "(I)Ljava/lang/Object;"⟩) (show ySg ⟨"java/util/List", "get", "(I)Ljava/lang/Object;"⟩ 1 = true by decide +kernel) rfl q887 q453 q455 q81 q457 (List.mem_of_getElem? (i := 6) rfl) rfl (Nat.le_of_ble_eq_true rfl) dX1_ofReign_48 rfl hq46 hp22 hp23 (cj_J2_get G l y45 i1 h19 _ hw) (k_R (fun r47 h48 hw => ?_))
    obtain ⟨e50, hw⟩ := hw
    refine r_cast (x := r47) C (ci := 3) rfl q1608 dX1_ofReign_53 e50 ?_
    obtain ⟨y51, rfl, hw_y51⟩ := hw
    have hw := hw_y51
    refine r_gfI (k := 0) C kX4 (by decide) (Or.inr ⟨_, (List.mem_of_getElem? (i := 13) rfl)⟩) (Or.inl rfl) dX1_ofReign_56 hw (fun v52 hw => ?_)
    refine r_goto (tgt := 97) C (by decide) dX1_ofReign_59 ?_
    exact r_ireturn C dX1_ofReign_97 hp22 hp23 ⟨_, rfl, hw⟩
def B_X1_ofDie_157 (mc ms : Nat) (X : String → Hp → Prop) (Q : Int32 → Hp → Prop) (LA105 : Hp → Nat → Nat → Nat → Int32 → Int32 → (Option Nat) → Int32 → Int32 → Prop) (h : Hp) (c : Nat) (n : Nat) (x0 : Nat) (x1 : Int32) (x2 : Int32) (x4 : Option Nat) (x6 : Int32) (s0 : Int32) (s1 : Bool) : Prop :=
  LA105 h c n x0 x1 x2 x4 (s0 + (bI s1)) (x6 + (1 : Int32))
def S_X1_ofDie_105 (mc ms : Nat) (X : String → Hp → Prop) (Q : Int32 → Hp → Prop) (LA105 : Hp → Nat → Nat → Nat → Int32 → Int32 → (Option Nat) → Int32 → Int32 → Prop) (h : Hp) (c : Nat) (n : Nat) (x0 : Nat) (x1 : Int32) (x2 : Int32) (x4 : Option Nat) (x5 : Int32) (x6 : Int32) : Prop :=
  nn x4 (fun y1 => alen h y1 (fun v2 => (v2 ≤ x6 → Q x5 h) ∧ (¬ v2 ≤ x6 → gfR h x0 0 0 (fun v4 => nn v4 (fun y5 => gfR h y5 1 2 (fun v6 => nn v6 (fun y7 => hasC h y7 8 ∧ (wj_J2_get y7 x6 h (fun r9 h10 => (∀ z11 : Nat, r9 = some z11 → hasC h10 z11 5) ∧ (nn r9 (fun y13 => gfI h10 y13 5 0 (fun v14 => (¬ v14 = x1 → B_X1_ofDie_157 mc ms X Q LA105 h10 c n x0 x1 x2 (some y1) x6 x5 false) ∧ (v14 = x1 → (x2 = (4 : Int32) → B_X1_ofDie_157 mc ms X Q LA105 h10 c n x0 x1 x2 (some y1) x6 x5 true) ∧ (¬ x2 = (4 : Int32) → rdI h10 y1 x6 (fun v17 => B_X1_ofDie_157 mc ms X Q LA105 h10 c n x0 x1 x2 (some y1) x6 x5 (if v17 ≤ 0 then false else true))))))))))))))))
def B_X1_ofDie_105 (mc ms : Nat) (X : String → Hp → Prop) (Q : Int32 → Hp → Prop) : Nat → Hp → Nat → Nat → Nat → Int32 → Int32 → (Option Nat) → Int32 → Int32 → Prop
  | 0, _, _, _, _, _, _, _, _, _ => False
  | k + 1, h, c, n, x0, x1, x2, x4, x5, x6 => S_X1_ofDie_105 mc ms X Q (B_X1_ofDie_105 mc ms X Q k) h c n x0 x1 x2 x4 x5 x6
def w_X1_ofDie (mc ms : Nat) (a0 : Nat) (i1 : Int32) (i2 : Int32) (h : Hp) (X : String → Hp → Prop) (Q : Int32 → Hp → Prop) : Prop :=
  gfR h a0 0 0 (fun v20 => nn v20 (fun y21 => hasC h y21 1 ∧ (w_X2_hasDie y21 i1 h (fun r23 h24 => ∃ k27 k28 : Nat, 0 + k27 ≤ mc ∧ 0 + k28 ≤ ms ∧ (w_X1_exists k27 k28 r23 h24 X (fun h26 => w_X1_isIn i2.toInt64 (0 : Int64) (5 : Int64) h26 (fun r31 h32 => ∃ k35 k36 : Nat, (0 + k27) + k35 ≤ mc ∧ (0 + k28) + k36 ≤ ms ∧ (w_X1_check k35 k36 r31 h32 X (fun h34 => gfR h34 a0 0 0 (fun v39 => nn v39 (fun y40 => gfR h34 y40 1 1 (fun v41 => nn v41 (fun y42 => hasC h34 y42 8 ∧ (wj_J2_get y42 i1 h34 (fun r44 h45 => (∀ z46 : Nat, r44 = some z46 → hasC h45 z46 4) ∧ (((4 : Int32) ≤ i2 → gfR h45 a0 0 0 (fun v49 => nn v49 (fun y50 => hasC h45 y50 1 ∧ (∃ k54 k55 : Nat, ((0 + k27) + k35) + k54 ≤ mc ∧ ((0 + k28) + k36) + k55 ≤ ms ∧ (w_X2_fakes k54 k55 y50 h45 (fun r52 h53 => ∃ k9 : Nat, B_X1_ofDie_105 mc ms X Q k9 h53 (((0 + k27) + k35) + k54) (((0 + k28) + k36) + k55) a0 i1 i2 r52 (0 : Int32) (0 : Int32))))))) ∧ (¬ (4 : Int32) ≤ i2 → (¬ i2 = 0 → (¬ i2 = (1 : Int32) → (¬ i2 = (2 : Int32) → nn r44 (fun y61 => gfR h45 y61 4 3 (fun v62 => nn v62 (fun y63 => hasC h45 y63 8 ∧ (wj_J2_size y63 h45 (fun r65 h66 => Q r65 h66)))))) ∧ (i2 = (2 : Int32) → nn r44 (fun y67 => gfI h45 y67 4 2 (fun v68 => Q v68 h45)))) ∧ (i2 = (1 : Int32) → nn r44 (fun y69 => gfI h45 y69 4 1 (fun v70 => Q v70 h45)))) ∧ (i2 = 0 → nn r44 (fun y71 => gfI h45 y71 4 0 (fun v72 => Q v72 h45))))))))))))))))))))
theorem b_X1_ofDie_157 {G : gT} {l : Launch} {V : Hp → Nat → Nat → Nat → List (Nat × Value) → List Value → Prop} {mc ms : Nat} {X : String → Hp → Prop} {Q : Int32 → Hp → Prop} (C : Cx G l V cX1_ofDie 7 RX1 12 262 mc ms (pI Q) (some X) (some .int) [] false) (LA105 : Hp → Nat → Nat → Nat → Int32 → Int32 → (Option Nat) → Int32 → Int32 → Prop) (hLA105 : ∀ (h : Hp) (c : Nat) (n : Nat) (x0 : Nat) (x1 : Int32) (x2 : Int32) (x4 : Option Nat) (x5 : Int32) (x6 : Int32), c ≤ mc → n ≤ ms → LA105 h c n x0 x1 x2 x4 x5 x6 → V h c n 105 [(0, .ref x0), (1, .int x1), (2, .int x2), (4, va_rf x4), (5, .int x5), (6, .int x6)] []) (h : Hp) (c : Nat) (n : Nat) (x0 : Nat) (x1 : Int32) (x2 : Int32) (x4 : Option Nat) (x6 : Int32) (s0 : Int32) (s1 : Bool) (b1 : c ≤ mc) (b2 : n ≤ ms) (hw : B_X1_ofDie_157 mc ms X Q LA105 h c n x0 x1 x2 x4 x6 s0 s1) : V h c n 157 [(0, .ref x0), (1, .int x1), (2, .int x2), (4, va_rf x4), (6, .int x6)] [.int (bI s1), .int s0] := by
  unfold B_X1_ofDie_157 at hw
  refine r_iadd C dX1_ofDie_157 (r_istore (L' := [(5, .int (s0 + (bI s1))), (0, .ref x0), (1, .int x1), (2, .int x2), (4, va_rf x4), (6, .int x6)]) C (by decide) (by rcases x4 with _ | _ <;> rfl) dX1_ofDie_158 (r_iinc (v := x6 + (1 : Int32)) (L' := [(6, .int (x6 + (1 : Int32))), (5, .int (s0 + (bI s1))), (0, .ref x0), (1, .int x1), (2, .int x2), (4, va_rf x4)]) C (u := 5) rfl (by rfl) (by decide) rfl dX1_ofDie_160 (r_goto (tgt := 105) C (by decide) dX1_ofDie_163 ?_)))
  exact r_sub C [2, 3, 4, 5, 1, 0] rfl (hLA105 _ _ _ _ _ _ _ _ _ b1 b2 hw)
theorem s_X1_ofDie_105 {G : gT} {l : Launch} {V : Hp → Nat → Nat → Nat → List (Nat × Value) → List Value → Prop} {mc ms : Nat} {X : String → Hp → Prop} {Q : Int32 → Hp → Prop} (C : Cx G l V cX1_ofDie 7 RX1 12 262 mc ms (pI Q) (some X) (some .int) [] false) (LA105 : Hp → Nat → Nat → Nat → Int32 → Int32 → (Option Nat) → Int32 → Int32 → Prop) (hLA105 : ∀ (h : Hp) (c : Nat) (n : Nat) (x0 : Nat) (x1 : Int32) (x2 : Int32) (x4 : Option Nat) (x5 : Int32) (x6 : Int32), c ≤ mc → n ≤ ms → LA105 h c n x0 x1 x2 x4 x5 x6 → V h c n 105 [(0, .ref x0), (1, .int x1), (2, .int x2), (4, va_rf x4), (5, .int x5), (6, .int x6)] []) (h : Hp) (c : Nat) (n : Nat) (x0 : Nat) (x1 : Int32) (x2 : Int32) (x4 : Option Nat) (x5 : Int32) (x6 : Int32) (b1 : c ≤ mc) (b2 : n ≤ ms) (hw : S_X1_ofDie_105 mc ms X Q LA105 h c n x0 x1 x2 x4 x5 x6) : V h c n 105 [(0, .ref x0), (1, .int x1), (2, .int x2), (4, va_rf x4), (5, .int x5), (6, .int x6)] [] := by
  unfold S_X1_ofDie_105 at hw
  refine r_iload C 5 rfl dX1_ofDie_105 (r_aloadO C 3 rfl dX1_ofDie_107 ?_)
  obtain ⟨y1, rfl, hw_y1⟩ := hw
  have hw := hw_y1
  refine r_alen C dX1_ofDie_109 hw (fun v2 hw => ?_)
  refine r_icmp_ge (tgt := 166) C (by decide) dX1_ofDie_110 (fun hc3 => ?_) (fun hc3 => ?_)
  · have hw := hw.1 hc3
    refine r_iload C 4 rfl dX1_ofDie_166 ?_
    exact r_ireturn C dX1_ofDie_168 b1 b2 ⟨_, rfl, hw⟩
  · have hw := hw.2 hc3
    refine r_iload C 4 rfl dX1_ofDie_113 (r_aload_n C rfl 0 rfl dX1_ofDie_115 ?_)
    refine r_gfR (k := 0) C kX1 (by decide) (Or.inl q344) (Or.inl rfl) dX1_ofDie_116 hw (fun v4 hw => ?_)
    obtain ⟨y5, rfl, hw_y5⟩ := hw
    have hw := hw_y5
    refine r_gfR (k := 2) C kX2 (by decide) (Or.inr ⟨_, (List.mem_of_getElem? (i := 5) rfl)⟩) (Or.inl rfl) dX1_ofDie_119 hw (fun v6 hw => ?_)
    refine r_iload C 5 rfl dX1_ofDie_122 ?_
    obtain ⟨y7, rfl, hw_y7⟩ := hw
    have hw := hw_y7
    obtain ⟨hq8, hw⟩ := hw
    refine r_callF (ci := 8) (rest := [.int x5]) (As := [.int x6]) C (x := ⟨"java/util/List", "get", "(I)Ljava/lang/Object;"⟩) (show ySg ⟨"java/util/List", "get", "(I)Ljava/lang/Object;"⟩ 1 = true by decide +kernel) rfl q887 q453 q455 q81 q457 (List.mem_of_getElem? (i := 6) rfl) rfl (Nat.le_of_ble_eq_true rfl) dX1_ofDie_124 rfl hq8 b1 b2 (cj_J2_get G l y7 x6 h _ hw) (k_R (fun r9 h10 hw => ?_))
    obtain ⟨e12, hw⟩ := hw
    refine r_cast (x := r9) C (ci := 5) rfl q1534 dX1_ofDie_129 e12 ?_
    obtain ⟨y13, rfl, hw_y13⟩ := hw
    have hw := hw_y13
    refine r_gfI (k := 0) C kX6 (by decide) (Or.inr ⟨_, (List.mem_of_getElem? (i := 28) rfl)⟩) (Or.inl rfl) dX1_ofDie_132 hw (fun v14 hw => ?_)
    refine r_iload_n C rfl 1 rfl dX1_ofDie_135 ?_
    refine r_icmp_ne (tgt := 156) C (by decide) dX1_ofDie_136 (fun hc15 => ?_) (fun hc15 => ?_)
    · have hw := hw.1 hc15
      refine r_iconst (v := (0 : Int32)) C (by decide) dX1_ofDie_156 ?_
      exact r_sub C [0, 1, 2, 3, 5] rfl (b_X1_ofDie_157 C LA105 hLA105 _ _ _ _ _ _ _ _ _ _ b1 b2 hw)
    · have hw := hw.2 hc15
      refine r_iload_n C rfl 2 rfl dX1_ofDie_139 (r_iconst (v := (4 : Int32)) C (by decide) dX1_ofDie_140 ?_)
      refine r_icmp_eq (tgt := 152) C (by decide) dX1_ofDie_141 (fun hc16 => ?_) (fun hc16 => ?_)
      · have hw := hw.1 hc16
        refine r_iconst (v := (1 : Int32)) C (by decide) dX1_ofDie_152 (r_goto (tgt := 157) C (by decide) dX1_ofDie_153 ?_)
        exact r_sub C [0, 1, 2, 3, 5] rfl (b_X1_ofDie_157 C LA105 hLA105 _ _ _ _ _ _ _ _ _ _ b1 b2 hw)
      · have hw := hw.2 hc16
        refine r_aload C 3 rfl dX1_ofDie_144 (r_iload C 5 rfl dX1_ofDie_146 ?_)
        refine r_iaload C dX1_ofDie_148 hw (fun v17 hw => ?_)
        have hJ : V h10 c n 157 [(0, .ref x0), (1, .int x1), (2, .int x2), (4, .ref y1), (6, .int x6)] [.int (bI (if v17 ≤ 0 then false else true)), .int x5] := by
          exact r_sub C [0, 1, 2, 3, 4] rfl (b_X1_ofDie_157 C LA105 hLA105 _ _ _ _ _ _ _ _ _ _ b1 b2 hw)
        refine r_if_le (tgt := 156) C (by decide) dX1_ofDie_149 (fun hc18 => ?_) (fun hc18 => ?_)
        · have hJ19 := hJ
          try simp only [if_pos hc18] at hJ19
          refine r_iconst (v := (0 : Int32)) C (by decide) dX1_ofDie_156 ?_
          exact r_sub C [0, 1, 2, 3, 5] rfl hJ19
        · have hJ19 := hJ
          try simp only [if_neg hc18] at hJ19
          refine r_iconst (v := (1 : Int32)) C (by decide) dX1_ofDie_152 (r_goto (tgt := 157) C (by decide) dX1_ofDie_153 ?_)
          exact r_sub C [0, 1, 2, 3, 5] rfl hJ19
theorem b_X1_ofDie_105 {G : gT} {l : Launch} {V : Hp → Nat → Nat → Nat → List (Nat × Value) → List Value → Prop} {mc ms : Nat} {X : String → Hp → Prop} {Q : Int32 → Hp → Prop} (C : Cx G l V cX1_ofDie 7 RX1 12 262 mc ms (pI Q) (some X) (some .int) [] false) : ∀ (k : Nat) (h : Hp) (c : Nat) (n : Nat) (x0 : Nat) (x1 : Int32) (x2 : Int32) (x4 : Option Nat) (x5 : Int32) (x6 : Int32), c ≤ mc → n ≤ ms → B_X1_ofDie_105 mc ms X Q k h c n x0 x1 x2 x4 x5 x6 → V h c n 105 [(0, .ref x0), (1, .int x1), (2, .int x2), (4, va_rf x4), (5, .int x5), (6, .int x6)] [] := by
  intro k
  induction k with
  | zero =>
    intro h c n x0 x1 x2 x4 x5 x6 b1 b2 hw
    exact hw.elim
  | succ k ih =>
    intro h c n x0 x1 x2 x4 x5 x6 b1 b2 hw
    exact s_X1_ofDie_105 C _ (fun h c n x0 x1 x2 x4 x5 x6 b1 b2 hw => ih h c n x0 x1 x2 x4 x5 x6 b1 b2 hw) h c n x0 x1 x2 x4 x5 x6 b1 b2 hw
theorem sg_X1_ofDie : ySg yX1_ofDie 2 = true := by decide +kernel
theorem c_X1_ofDie (G : gT) (l : Launch) (mc ms : Nat) (a0 : Nat) (i1 : Int32) (i2 : Int32) (h : Hp) (X : String → Hp → Prop) (Q : Int32 → Hp → Prop) (hst : l.stackTraces = false) (hw : w_X1_ofDie mc ms a0 i1 i2 h X Q) : CtX G l yX1_ofDie (ws_ yX1_ofDie cX1_ofDie 7 (some .int)) 12 262 mc ms [.ref a0, .int i1, .int i2] h (pI Q) X := by
  refine CtX.of (own := RX1) hst (by decide +kernel) rfl (show (_ : Nat) ≤ _ from Nat.le_of_ble_eq_true rfl) (fun V C => ?_)
  show V h 0 0 0 [(0, .ref a0), (1, .int i1), (2, .int i2)] []
  unfold w_X1_ofDie at hw
  refine r_aload_n C rfl 0 rfl dX1_ofDie_0 ?_
  refine r_gfR (k := 0) C kX1 (by decide) (Or.inl q344) (Or.inl rfl) dX1_ofDie_1 hw (fun v20 hw => ?_)
  refine r_iload_n C rfl 1 rfl dX1_ofDie_4 ?_
  obtain ⟨y21, rfl, hw_y21⟩ := hw
  have hw := hw_y21
  obtain ⟨hq22, hw⟩ := hw
  refine r_callV (ci := 1) (rest := []) (As := [.int i1]) C sg_X2_hasDie rfl rfl q881 q882 q883 q78 q884 rfl (Nat.le_of_ble_eq_true rfl) dX1_ofDie_5 rfl hq22 (Nat.zero_le _) (Nat.zero_le _) (c_X2_hasDie G l y21 i1 h _ hw) (k_Z (fun r23 h24 hw => ?_))
  obtain ⟨k27, k28, hp29, hp30, hw⟩ := hw
  refine r_callSX (rest := []) (As := [.int (bI r23)]) C sg_X1_exists q1599 q1600 q77 q1601 rfl (Nat.le_of_ble_eq_true rfl) dX1_ofDie_8 rfl hp29 hp30 (c_X1_exists G l k27 k28 r23 h24 X _ (st_C C) hw) (k_V (fun h26 hw => ?_))
  refine r_iload_n C rfl 2 rfl dX1_ofDie_11 (r_i2l C dX1_ofDie_12 (r_lconst (v := (0 : Int64)) C (by decide) dX1_ofDie_13 (r_ldc2 (v := (5 : Int64)) C q835 dX1_ofDie_14 ?_)))
  refine r_callS (rest := []) (As := [.long i2.toInt64, .long (0 : Int64), .long (5 : Int64)]) C sg_X1_isIn q399 q400 q77 q401 rfl (Nat.le_of_ble_eq_true rfl) dX1_ofDie_17 rfl hp29 hp30 (c_X1_isIn G l i2.toInt64 (0 : Int64) (5 : Int64) h26 _ hw) (k_Z (fun r31 h32 hw => ?_))
  obtain ⟨k35, k36, hp37, hp38, hw⟩ := hw
  refine r_callSX (rest := []) (As := [.int (bI r31)]) C sg_X1_check q1332 q1333 q77 q1334 rfl (Nat.le_of_ble_eq_true rfl) dX1_ofDie_20 rfl hp37 hp38 (c_X1_check G l k35 k36 r31 h32 X _ (st_C C) hw) (k_V (fun h34 hw => ?_))
  refine r_aload_n C rfl 0 rfl dX1_ofDie_23 ?_
  refine r_gfR (k := 0) C kX1 (by decide) (Or.inl q344) (Or.inl rfl) dX1_ofDie_24 hw (fun v39 hw => ?_)
  obtain ⟨y40, rfl, hw_y40⟩ := hw
  have hw := hw_y40
  refine r_gfR (k := 1) C kX2 (by decide) (Or.inr ⟨_, (List.mem_of_getElem? (i := 4) rfl)⟩) (Or.inl rfl) dX1_ofDie_27 hw (fun v41 hw => ?_)
  refine r_iload_n C rfl 1 rfl dX1_ofDie_30 ?_
  obtain ⟨y42, rfl, hw_y42⟩ := hw
  have hw := hw_y42
  obtain ⟨hq43, hw⟩ := hw
  refine r_callF (ci := 8) (rest := []) (As := [.int i1]) C (x := ⟨"java/util/List", "get", "(I)Ljava/lang/Object;"⟩) (show ySg ⟨"java/util/List", "get", "(I)Ljava/lang/Object;"⟩ 1 = true by decide +kernel) rfl q887 q453 q455 q81 q457 (List.mem_of_getElem? (i := 6) rfl) rfl (Nat.le_of_ble_eq_true rfl) dX1_ofDie_31 rfl hq43 hp37 hp38 (cj_J2_get G l y42 i1 h34 _ hw) (k_R (fun r44 h45 hw => ?_))
  obtain ⟨e47, hw⟩ := hw
  refine r_cast (x := r44) C (ci := 4) rfl q888 dX1_ofDie_36 e47 ?_
  refine r_astore_nO (x := r44) (L' := [(3, va_rf r44), (0, .ref a0), (1, .int i1), (2, .int i2)]) C rfl (by decide) rfl dX1_ofDie_39 (r_iload_n C rfl 3 rfl dX1_ofDie_40 (r_iconst (v := (4 : Int32)) C (by decide) dX1_ofDie_41 ?_))
  refine r_icmp_ge (tgt := 90) C (by decide) dX1_ofDie_42 (fun hc48 => ?_) (fun hc48 => ?_)
  · have hw := hw.1 hc48
    refine r_aload_n C rfl 1 rfl dX1_ofDie_90 ?_
    refine r_gfR (k := 0) C kX1 (by decide) (Or.inl q344) (Or.inl rfl) dX1_ofDie_91 hw (fun v49 hw => ?_)
    obtain ⟨y50, rfl, hw_y50⟩ := hw
    have hw := hw_y50
    obtain ⟨hq51, hw⟩ := hw
    obtain ⟨k54, k55, hp56, hp57, hw⟩ := hw
    refine r_callV (ci := 1) (rest := []) (As := []) C sg_X2_fakes rfl rfl q1533 q1384 q1385 q78 q1386 rfl (Nat.le_of_ble_eq_true rfl) dX1_ofDie_94 rfl hq51 hp56 hp57 (c_X2_fakes G l k54 k55 y50 h45 _ hw) (k_R (fun r52 h53 hw => ?_))
    refine r_astoreO (x := r52) (L' := [(4, va_rf r52), (3, va_rf r44), (0, .ref a0), (1, .int i1), (2, .int i2)]) C (by decide) (by rcases r44 with _ | _ <;> rfl) dX1_ofDie_97 (r_iconst (v := (0 : Int32)) C (by decide) dX1_ofDie_99 (r_istore (L' := [(5, .int (0 : Int32)), (4, va_rf r52), (3, va_rf r44), (0, .ref a0), (1, .int i1), (2, .int i2)]) C (by decide) (by rcases r52 with _ | _ <;> rfl) dX1_ofDie_100 (r_iconst (v := (0 : Int32)) C (by decide) dX1_ofDie_102 (r_istore (L' := [(6, .int (0 : Int32)), (5, .int (0 : Int32)), (4, va_rf r52), (3, va_rf r44), (0, .ref a0), (1, .int i1), (2, .int i2)]) C (by decide) rfl dX1_ofDie_103 ?_))))
    obtain ⟨k9, hw⟩ := hw
    exact r_sub C [4, 5, 6, 2, 1, 0] rfl (b_X1_ofDie_105 C _ _ _ _ _ _ _ _ _ _ hp56 hp57 hw)
  · have hw := hw.2 hc48
    refine r_iload_n C rfl 3 rfl dX1_ofDie_45 ?_
    refine r_if_ne (tgt := 56) C (by decide) dX1_ofDie_46 (fun hc58 => ?_) (fun hc58 => ?_)
    · have hw := hw.1 hc58
      refine r_iload_n C rfl 3 rfl dX1_ofDie_56 (r_iconst (v := (1 : Int32)) C (by decide) dX1_ofDie_57 ?_)
      refine r_icmp_ne (tgt := 68) C (by decide) dX1_ofDie_58 (fun hc59 => ?_) (fun hc59 => ?_)
      · have hw := hw.1 hc59
        refine r_iload_n C rfl 3 rfl dX1_ofDie_68 (r_iconst (v := (2 : Int32)) C (by decide) dX1_ofDie_69 ?_)
        refine r_icmp_ne (tgt := 80) C (by decide) dX1_ofDie_70 (fun hc60 => ?_) (fun hc60 => ?_)
        · have hw := hw.1 hc60
          refine r_aload_nO C rfl 0 rfl dX1_ofDie_80 ?_
          obtain ⟨y61, rfl, hw_y61⟩ := hw
          have hw := hw_y61
          refine r_gfR (k := 3) C kX5 (by decide) (Or.inr ⟨_, (List.mem_of_getElem? (i := 24) rfl)⟩) (Or.inl rfl) dX1_ofDie_81 hw (fun v62 hw => ?_)
          obtain ⟨y63, rfl, hw_y63⟩ := hw
          have hw := hw_y63
          obtain ⟨hq64, hw⟩ := hw
          refine r_callF (ci := 8) (rest := []) (As := []) C (x := ⟨"java/util/List", "size", "()I"⟩) (show ySg ⟨"java/util/List", "size", "()I"⟩ 0 = true by decide +kernel) rfl q842 q414 q416 q81 q418 (List.mem_of_getElem? (i := 2) rfl) rfl (Nat.le_of_ble_eq_true rfl) dX1_ofDie_84 rfl hq64 hp37 hp38 (cj_J2_size G l y63 h45 _ hw) (k_I (fun r65 h66 hw => ?_))
          exact r_ireturn C dX1_ofDie_89 hp37 hp38 ⟨_, rfl, hw⟩
        · have hw := hw.2 hc60
          refine r_aload_nO C rfl 0 rfl dX1_ofDie_73 ?_
          obtain ⟨y67, rfl, hw_y67⟩ := hw
          have hw := hw_y67
          refine r_gfI (k := 2) C kX5 (by decide) (Or.inr ⟨_, (List.mem_of_getElem? (i := 21) rfl)⟩) (Or.inl rfl) dX1_ofDie_74 hw (fun v68 hw => ?_)
          refine r_goto (tgt := 89) C (by decide) dX1_ofDie_77 ?_
          exact r_ireturn C dX1_ofDie_89 hp37 hp38 ⟨_, rfl, hw⟩
      · have hw := hw.2 hc59
        refine r_aload_nO C rfl 0 rfl dX1_ofDie_61 ?_
        obtain ⟨y69, rfl, hw_y69⟩ := hw
        have hw := hw_y69
        refine r_gfI (k := 1) C kX5 (by decide) (Or.inr ⟨_, (List.mem_of_getElem? (i := 19) rfl)⟩) (Or.inl rfl) dX1_ofDie_62 hw (fun v70 hw => ?_)
        refine r_goto (tgt := 89) C (by decide) dX1_ofDie_65 ?_
        exact r_ireturn C dX1_ofDie_89 hp37 hp38 ⟨_, rfl, hw⟩
    · have hw := hw.2 hc58
      refine r_aload_nO C rfl 0 rfl dX1_ofDie_49 ?_
      obtain ⟨y71, rfl, hw_y71⟩ := hw
      have hw := hw_y71
      refine r_gfI (k := 0) C kX5 (by decide) (Or.inr ⟨_, (List.mem_of_getElem? (i := 17) rfl)⟩) (Or.inl rfl) dX1_ofDie_50 hw (fun v72 hw => ?_)
      refine r_goto (tgt := 89) C (by decide) dX1_ofDie_53 ?_
      exact r_ireturn C dX1_ofDie_89 hp37 hp38 ⟨_, rfl, hw⟩
def B_X1_crackYear_52 (mc ms : Nat) (X : String → Hp → Prop) (Q : Int32 → Hp → Prop) (h : Hp) (c : Nat) (n : Nat) (x0 : Nat) (x1 : Int32) (x2 : Int32) (s0 : Bool) : Prop :=
  ∃ k3 k4 : Nat, c + k3 ≤ mc ∧ n + k4 ≤ ms ∧ (w_X1_exists k3 k4 s0 h X (fun h2 => gfR h2 x0 0 0 (fun v7 => nn v7 (fun y8 => gfR h2 y8 1 1 (fun v9 => nn v9 (fun y10 => hasC h2 y10 8 ∧ (wj_J2_get y10 x1 h2 (fun r12 h13 => (∀ z14 : Nat, r12 = some z14 → hasC h13 z14 4) ∧ (nn r12 (fun y16 => gfR h13 y16 4 3 (fun v17 => nn v17 (fun y18 => hasC h13 y18 8 ∧ (wj_J2_get y18 x2 h13 (fun r20 h21 => (∀ z22 : Nat, r20 = some z22 → hasC h21 z22 12) ∧ (nn r20 (fun y24 => hasC h21 y24 12 ∧ (wj_J24_intValue y24 h21 (fun r26 h27 => Q r26 h27))))))))))))))))))
def w_X1_crackYear (mc ms : Nat) (a0 : Nat) (i1 : Int32) (i2 : Int32) (h : Hp) (X : String → Hp → Prop) (Q : Int32 → Hp → Prop) : Prop :=
  gfR h a0 0 0 (fun v28 => nn v28 (fun y29 => hasC h y29 1 ∧ (w_X2_hasDie y29 i1 h (fun r31 h32 => (r31 = false → B_X1_crackYear_52 mc ms X Q h32 0 0 a0 i1 i2 false) ∧ (r31 = true → gfR h32 a0 0 0 (fun v34 => nn v34 (fun y35 => gfR h32 y35 1 1 (fun v36 => nn v36 (fun y37 => hasC h32 y37 8 ∧ (wj_J2_get y37 i1 h32 (fun r39 h40 => (∀ z41 : Nat, r39 = some z41 → hasC h40 z41 4) ∧ (nn r39 (fun y43 => gfR h40 y43 4 3 (fun v44 => nn v44 (fun y45 => hasC h40 y45 8 ∧ (wj_J2_size y45 h40 (fun r47 h48 => w_X1_isIn i2.toInt64 (0 : Int64) ((r47 - (1 : Int32)).toInt64) h48 (fun r49 h50 => B_X1_crackYear_52 mc ms X Q h50 0 0 a0 i1 i2 (if r49 = false then false else true)))))))))))))))))))
theorem b_X1_crackYear_52 {G : gT} {l : Launch} {V : Hp → Nat → Nat → Nat → List (Nat × Value) → List Value → Prop} {mc ms : Nat} {X : String → Hp → Prop} {Q : Int32 → Hp → Prop} (C : Cx G l V cX1_crackYear 3 RX1 7 110 mc ms (pI Q) (some X) (some .int) [] false) (h : Hp) (c : Nat) (n : Nat) (x0 : Nat) (x1 : Int32) (x2 : Int32) (s0 : Bool) (b1 : c ≤ mc) (b2 : n ≤ ms) (hw : B_X1_crackYear_52 mc ms X Q h c n x0 x1 x2 s0) : V h c n 52 [(0, .ref x0), (1, .int x1), (2, .int x2)] [.int (bI s0)] := by
  unfold B_X1_crackYear_52 at hw
  obtain ⟨k3, k4, hp5, hp6, hw⟩ := hw
  refine r_callSX (rest := []) (As := [.int (bI s0)]) C sg_X1_exists q1599 q1600 q77 q1601 rfl (Nat.le_of_ble_eq_true rfl) dX1_crackYear_52 rfl hp5 hp6 (c_X1_exists G l k3 k4 s0 h X _ (st_C C) hw) (k_V (fun h2 hw => ?_))
  refine r_aload_n C rfl 0 rfl dX1_crackYear_55 ?_
  refine r_gfR (k := 0) C kX1 (by decide) (Or.inl q344) (Or.inl rfl) dX1_crackYear_56 hw (fun v7 hw => ?_)
  obtain ⟨y8, rfl, hw_y8⟩ := hw
  have hw := hw_y8
  refine r_gfR (k := 1) C kX2 (by decide) (Or.inr ⟨_, (List.mem_of_getElem? (i := 4) rfl)⟩) (Or.inl rfl) dX1_crackYear_59 hw (fun v9 hw => ?_)
  refine r_iload_n C rfl 1 rfl dX1_crackYear_62 ?_
  obtain ⟨y10, rfl, hw_y10⟩ := hw
  have hw := hw_y10
  obtain ⟨hq11, hw⟩ := hw
  refine r_callF (ci := 8) (rest := []) (As := [.int x1]) C (x := ⟨"java/util/List", "get", "(I)Ljava/lang/Object;"⟩) (show ySg ⟨"java/util/List", "get", "(I)Ljava/lang/Object;"⟩ 1 = true by decide +kernel) rfl q887 q453 q455 q81 q457 (List.mem_of_getElem? (i := 6) rfl) rfl (Nat.le_of_ble_eq_true rfl) dX1_crackYear_63 rfl hq11 hp5 hp6 (cj_J2_get G l y10 x1 h2 _ hw) (k_R (fun r12 h13 hw => ?_))
  obtain ⟨e15, hw⟩ := hw
  refine r_cast (x := r12) C (ci := 4) rfl q888 dX1_crackYear_68 e15 ?_
  obtain ⟨y16, rfl, hw_y16⟩ := hw
  have hw := hw_y16
  refine r_gfR (k := 3) C kX5 (by decide) (Or.inr ⟨_, (List.mem_of_getElem? (i := 24) rfl)⟩) (Or.inl rfl) dX1_crackYear_71 hw (fun v17 hw => ?_)
  refine r_iload_n C rfl 2 rfl dX1_crackYear_74 ?_
  obtain ⟨y18, rfl, hw_y18⟩ := hw
  have hw := hw_y18
  obtain ⟨hq19, hw⟩ := hw
  refine r_callF (ci := 8) (rest := []) (As := [.int x2]) C (x := ⟨"java/util/List", "get", "(I)Ljava/lang/Object;"⟩) (show ySg ⟨"java/util/List", "get", "(I)Ljava/lang/Object;"⟩ 1 = true by decide +kernel) rfl q887 q453 q455 q81 q457 (List.mem_of_getElem? (i := 6) rfl) rfl (Nat.le_of_ble_eq_true rfl) dX1_crackYear_75 rfl hq19 hp5 hp6 (cj_J2_get G l y18 x2 h13 _ hw) (k_R (fun r20 h21 hw => ?_))
  obtain ⟨e23, hw⟩ := hw
  refine r_cast (x := r20) C (ci := 12) rfl q1627 dX1_crackYear_80 e23 ?_
  obtain ⟨y24, rfl, hw_y24⟩ := hw
  have hw := hw_y24
  obtain ⟨hq25, hw⟩ := hw
  refine r_callV (ci := 12) (rest := []) (As := []) C sg_J24_intValue rfl rfl q1628 q952 q953 q105 q954 rfl (Nat.le_of_ble_eq_true rfl) dX1_crackYear_83 rfl hq25 hp5 hp6 (cj_J24_intValue G l y24 h21 _ hw) (k_I (fun r26 h27 hw => ?_))
  exact r_ireturn C dX1_crackYear_86 hp5 hp6 ⟨_, rfl, hw⟩
theorem sg_X1_crackYear : ySg yX1_crackYear 2 = true := by decide +kernel
theorem c_X1_crackYear (G : gT) (l : Launch) (mc ms : Nat) (a0 : Nat) (i1 : Int32) (i2 : Int32) (h : Hp) (X : String → Hp → Prop) (Q : Int32 → Hp → Prop) (hst : l.stackTraces = false) (hw : w_X1_crackYear mc ms a0 i1 i2 h X Q) : CtX G l yX1_crackYear (ws_ yX1_crackYear cX1_crackYear 3 (some .int)) 7 110 mc ms [.ref a0, .int i1, .int i2] h (pI Q) X := by
  refine CtX.of (own := RX1) hst (by decide +kernel) rfl (show (_ : Nat) ≤ _ from Nat.le_of_ble_eq_true rfl) (fun V C => ?_)
  show V h 0 0 0 [(0, .ref a0), (1, .int i1), (2, .int i2)] []
  unfold w_X1_crackYear at hw
  refine r_aload_n C rfl 0 rfl dX1_crackYear_0 ?_
  refine r_gfR (k := 0) C kX1 (by decide) (Or.inl q344) (Or.inl rfl) dX1_crackYear_1 hw (fun v28 hw => ?_)
  refine r_iload_n C rfl 1 rfl dX1_crackYear_4 ?_
  obtain ⟨y29, rfl, hw_y29⟩ := hw
  have hw := hw_y29
  obtain ⟨hq30, hw⟩ := hw
  refine r_callV (ci := 1) (rest := []) (As := [.int i1]) C sg_X2_hasDie rfl rfl q881 q882 q883 q78 q884 rfl (Nat.le_of_ble_eq_true rfl) dX1_crackYear_5 rfl hq30 (Nat.zero_le _) (Nat.zero_le _) (c_X2_hasDie G l y29 i1 h _ hw) (k_Z (fun r31 h32 hw => ?_))
  refine r_if_eq_b (tgt := 51) C (by decide) dX1_crackYear_8 (fun hc33 => ?_) (fun hc33 => ?_)
  · have hw := hw.1 hc33
    refine r_iconst (v := (0 : Int32)) C (by decide) dX1_crackYear_51 ?_
    exact r_sub C [0, 1, 2] rfl (b_X1_crackYear_52 C _ _ _ _ _ _ _ (Nat.zero_le _) (Nat.zero_le _) hw)
  · have hw := hw.2 hc33
    refine r_iload_n C rfl 2 rfl dX1_crackYear_11 (r_i2l C dX1_crackYear_12 (r_lconst (v := (0 : Int64)) C (by decide) dX1_crackYear_13 (r_aload_n C rfl 0 rfl dX1_crackYear_14 ?_)))
    refine r_gfR (k := 0) C kX1 (by decide) (Or.inl q344) (Or.inl rfl) dX1_crackYear_15 hw (fun v34 hw => ?_)
    obtain ⟨y35, rfl, hw_y35⟩ := hw
    have hw := hw_y35
    refine r_gfR (k := 1) C kX2 (by decide) (Or.inr ⟨_, (List.mem_of_getElem? (i := 4) rfl)⟩) (Or.inl rfl) dX1_crackYear_18 hw (fun v36 hw => ?_)
    refine r_iload_n C rfl 1 rfl dX1_crackYear_21 ?_
    obtain ⟨y37, rfl, hw_y37⟩ := hw
    have hw := hw_y37
    obtain ⟨hq38, hw⟩ := hw
    refine r_callF (ci := 8) (rest := [.long (0 : Int64), .long i2.toInt64]) (As := [.int i1]) C (x := ⟨"java/util/List", "get", "(I)Ljava/lang/Object;"⟩) (show ySg ⟨"java/util/List", "get", "(I)Ljava/lang/Object;"⟩ 1 = true by decide +kernel) rfl q887 q453 q455 q81 q457 (List.mem_of_getElem? (i := 6) rfl) rfl (Nat.le_of_ble_eq_true rfl) dX1_crackYear_22 rfl hq38 (Nat.zero_le _) (Nat.zero_le _) (cj_J2_get G l y37 i1 h32 _ hw) (k_R (fun r39 h40 hw => ?_))
    obtain ⟨e42, hw⟩ := hw
    refine r_cast (x := r39) C (ci := 4) rfl q888 dX1_crackYear_27 e42 ?_
    obtain ⟨y43, rfl, hw_y43⟩ := hw
    have hw := hw_y43
    refine r_gfR (k := 3) C kX5 (by decide) (Or.inr ⟨_, (List.mem_of_getElem? (i := 24) rfl)⟩) (Or.inl rfl) dX1_crackYear_30 hw (fun v44 hw => ?_)
    obtain ⟨y45, rfl, hw_y45⟩ := hw
    have hw := hw_y45
    obtain ⟨hq46, hw⟩ := hw
    refine r_callF (ci := 8) (rest := [.long (0 : Int64), .long i2.toInt64]) (As := []) C (x := ⟨"java/util/List", "size", "()I"⟩) (show ySg ⟨"java/util/List", "size", "()I"⟩ 0 = true by decide +kernel) rfl q842 q414 q416 q81 q418 (List.mem_of_getElem? (i := 2) rfl) rfl (Nat.le_of_ble_eq_true rfl) dX1_crackYear_33 rfl hq46 (Nat.zero_le _) (Nat.zero_le _) (cj_J2_size G l y45 h40 _ hw) (k_I (fun r47 h48 hw => ?_))
    refine r_iconst (v := (1 : Int32)) C (by decide) dX1_crackYear_38 (r_isub C dX1_crackYear_39 (r_i2l C dX1_crackYear_40 ?_))
    refine r_callS (rest := []) (As := [.long i2.toInt64, .long (0 : Int64), .long ((r47 - (1 : Int32)).toInt64)]) C sg_X1_isIn q399 q400 q77 q401 rfl (Nat.le_of_ble_eq_true rfl) dX1_crackYear_41 rfl (Nat.zero_le _) (Nat.zero_le _) (c_X1_isIn G l i2.toInt64 (0 : Int64) ((r47 - (1 : Int32)).toInt64) h48 _ hw) (k_Z (fun r49 h50 hw => ?_))
    have hJ : V h50 0 0 52 [(0, .ref a0), (1, .int i1), (2, .int i2)] [.int (bI (if r49 = false then false else true))] := by
      exact r_sub C [0, 1, 2] rfl (b_X1_crackYear_52 C _ _ _ _ _ _ _ (Nat.zero_le _) (Nat.zero_le _) hw)
    refine r_if_eq_b (tgt := 51) C (by decide) dX1_crackYear_44 (fun hc51 => ?_) (fun hc51 => ?_)
    · have hJ52 := hJ
      try simp only [if_pos hc51] at hJ52
      refine r_iconst (v := (0 : Int32)) C (by decide) dX1_crackYear_51 ?_
      exact r_sub C [0, 1, 2] rfl hJ52
    · have hJ52 := hJ
      try simp only [if_neg (show ¬ r49 = false from by rw [hc51]; decide)] at hJ52
      refine r_iconst (v := (1 : Int32)) C (by decide) dX1_crackYear_47 (r_goto (tgt := 52) C (by decide) dX1_crackYear_48 ?_)
      exact r_sub C [0, 1, 2] rfl hJ52
def w_X1_ofSeal (mc ms : Nat) (a0 : Nat) (i1 : Int32) (i2 : Int32) (h : Hp) (X : String → Hp → Prop) (Q : Int32 → Hp → Prop) : Prop :=
  gfR h a0 0 0 (fun v1 => nn v1 (fun y2 => hasC h y2 1 ∧ (w_X2_hasSeal y2 i1 h (fun r4 h5 => ∃ k8 k9 : Nat, 0 + k8 ≤ mc ∧ 0 + k9 ≤ ms ∧ (w_X1_exists k8 k9 r4 h5 X (fun h7 => gfR h7 a0 0 0 (fun v12 => nn v12 (fun y13 => gfR h7 y13 1 2 (fun v14 => nn v14 (fun y15 => hasC h7 y15 8 ∧ (wj_J2_get y15 i1 h7 (fun r17 h18 => (∀ z19 : Nat, r17 = some z19 → hasC h18 z19 5) ∧ (gfR h18 a0 0 0 (fun v21 => nn v21 (fun y22 => hasC h18 y22 1 ∧ (∃ k26 k27 : Nat, (0 + k8) + k26 ≤ mc ∧ (0 + k9) + k27 ≤ ms ∧ (w_X2_shelfOf k26 k27 y22 i1 h18 (fun r24 h25 => (i2.toInt < 0 ∨ 7 < i2.toInt → ((0 + k8) + k26) + 1 ≤ mc ∧ ((0 + k9) + k27) + 6 ≤ ms ∧ X "java/lang/IllegalArgumentException" h25) ∧ (i2 = (0 : Int32) → nn r17 (fun y30 => gfI h25 y30 5 0 (fun v31 => Q v31 h25))) ∧ (i2 = (1 : Int32) → nn r17 (fun y32 => gfI h25 y32 5 1 (fun v33 => Q v33 h25))) ∧ (i2 = (2 : Int32) → nn r17 (fun y34 => gfI h25 y34 5 2 (fun v35 => Q v35 h25))) ∧ (i2 = (3 : Int32) → nn r17 (fun y36 => gfI h25 y36 5 3 (fun v37 => Q v37 h25))) ∧ (i2 = (4 : Int32) → nn r17 (fun y38 => gfI h25 y38 5 4 (fun v39 => Q v39 h25))) ∧ (i2 = (5 : Int32) → nn r17 (fun y40 => gfI h25 y40 5 5 (fun v41 => Q v41 h25))) ∧ (i2 = (6 : Int32) → Q r24 h25) ∧ (i2 = (7 : Int32) → (¬ r24 = (-1 : Int32) → gfR h25 a0 0 0 (fun v43 => nn v43 (fun y44 => gfR h25 y44 1 3 (fun v45 => nn v45 (fun y46 => hasC h25 y46 8 ∧ (wj_J2_get y46 r24 h25 (fun r48 h49 => (∀ z50 : Nat, r48 = some z50 → hasC h49 z50 9) ∧ (∃ k54 k55 : Nat, ((0 + k8) + k26) + k54 ≤ mc ∧ ((0 + k9) + k27) + k55 ≤ ms ∧ (wj_J24_valueOf k54 k55 i1 h49 (fun r52 h53 => nn r48 (fun y58 => nn r52 (fun y59 => hasC h53 y58 9 ∧ (wj_J4_indexOf y58 y59 h53 (fun r61 h62 => Q r61 h62)))))))))))))) ∧ (r24 = (-1 : Int32) → Q (-1 : Int32) h25))))))))))))))))))))
theorem sg_X1_ofSeal : ySg yX1_ofSeal 2 = true := by decide +kernel
theorem c_X1_ofSeal (G : gT) (l : Launch) (mc ms : Nat) (a0 : Nat) (i1 : Int32) (i2 : Int32) (h : Hp) (X : String → Hp → Prop) (Q : Int32 → Hp → Prop) (hst : l.stackTraces = false) (hw : w_X1_ofSeal mc ms a0 i1 i2 h X Q) : CtX G l yX1_ofSeal (ws_ yX1_ofSeal cX1_ofSeal 5 (some .int)) 7 119 mc ms [.ref a0, .int i1, .int i2] h (pI Q) X := by
  refine CtX.of (own := RX1) hst (by decide +kernel) rfl (show (_ : Nat) ≤ _ from Nat.le_of_ble_eq_true rfl) (fun V C => ?_)
  show V h 0 0 0 [(0, .ref a0), (1, .int i1), (2, .int i2)] []
  unfold w_X1_ofSeal at hw
  refine r_aload_n C rfl 0 rfl dX1_ofSeal_0 ?_
  refine r_gfR (k := 0) C kX1 (by decide) (Or.inl q344) (Or.inl rfl) dX1_ofSeal_1 hw (fun v1 hw => ?_)
  refine r_iload_n C rfl 1 rfl dX1_ofSeal_4 ?_
  obtain ⟨y2, rfl, hw_y2⟩ := hw
  have hw := hw_y2
  obtain ⟨hq3, hw⟩ := hw
  refine r_callV (ci := 1) (rest := []) (As := [.int i1]) C sg_X2_hasSeal rfl rfl q1035 q1036 q1037 q78 q1038 rfl (Nat.le_of_ble_eq_true rfl) dX1_ofSeal_5 rfl hq3 (Nat.zero_le _) (Nat.zero_le _) (c_X2_hasSeal G l y2 i1 h _ hw) (k_Z (fun r4 h5 hw => ?_))
  obtain ⟨k8, k9, hp10, hp11, hw⟩ := hw
  refine r_callSX (rest := []) (As := [.int (bI r4)]) C sg_X1_exists q1599 q1600 q77 q1601 rfl (Nat.le_of_ble_eq_true rfl) dX1_ofSeal_8 rfl hp10 hp11 (c_X1_exists G l k8 k9 r4 h5 X _ (st_C C) hw) (k_V (fun h7 hw => ?_))
  refine r_aload_n C rfl 0 rfl dX1_ofSeal_11 ?_
  refine r_gfR (k := 0) C kX1 (by decide) (Or.inl q344) (Or.inl rfl) dX1_ofSeal_12 hw (fun v12 hw => ?_)
  obtain ⟨y13, rfl, hw_y13⟩ := hw
  have hw := hw_y13
  refine r_gfR (k := 2) C kX2 (by decide) (Or.inr ⟨_, (List.mem_of_getElem? (i := 5) rfl)⟩) (Or.inl rfl) dX1_ofSeal_15 hw (fun v14 hw => ?_)
  refine r_iload_n C rfl 1 rfl dX1_ofSeal_18 ?_
  obtain ⟨y15, rfl, hw_y15⟩ := hw
  have hw := hw_y15
  obtain ⟨hq16, hw⟩ := hw
  refine r_callF (ci := 8) (rest := []) (As := [.int i1]) C (x := ⟨"java/util/List", "get", "(I)Ljava/lang/Object;"⟩) (show ySg ⟨"java/util/List", "get", "(I)Ljava/lang/Object;"⟩ 1 = true by decide +kernel) rfl q887 q453 q455 q81 q457 (List.mem_of_getElem? (i := 6) rfl) rfl (Nat.le_of_ble_eq_true rfl) dX1_ofSeal_19 rfl hq16 hp10 hp11 (cj_J2_get G l y15 i1 h7 _ hw) (k_R (fun r17 h18 hw => ?_))
  obtain ⟨e20, hw⟩ := hw
  refine r_cast (x := r17) C (ci := 5) rfl q1534 dX1_ofSeal_24 e20 ?_
  refine r_astore_nO (x := r17) (L' := [(3, va_rf r17), (0, .ref a0), (1, .int i1), (2, .int i2)]) C rfl (by decide) rfl dX1_ofSeal_27 (r_aload_n C rfl 1 rfl dX1_ofSeal_28 ?_)
  refine r_gfR (k := 0) C kX1 (by decide) (Or.inl q344) (Or.inl rfl) dX1_ofSeal_29 hw (fun v21 hw => ?_)
  refine r_iload_n C rfl 2 rfl dX1_ofSeal_32 ?_
  obtain ⟨y22, rfl, hw_y22⟩ := hw
  have hw := hw_y22
  obtain ⟨hq23, hw⟩ := hw
  obtain ⟨k26, k27, hp28, hp29, hw⟩ := hw
  refine r_callV (ci := 1) (rest := []) (As := [.int i1]) C sg_X2_shelfOf rfl rfl q1636 q1637 q1638 q78 q1639 rfl (Nat.le_of_ble_eq_true rfl) dX1_ofSeal_33 rfl hq23 hp28 hp29 (c_X2_shelfOf G l k26 k27 y22 i1 h18 _ hw) (k_I (fun r24 h25 hw => ?_))
  refine r_istore (L' := [(4, .int r24), (3, va_rf r17), (0, .ref a0), (1, .int i1), (2, .int i2)]) C (by decide) (by rcases r17 with _ | _ <;> rfl) dX1_ofSeal_36 (r_iload_n C rfl 4 rfl dX1_ofSeal_38 ?_)
  by_cases hd63 : i2.toInt < 0 ∨ 7 < i2.toInt
  · have hw := hw.1 hd63
    refine r_tableOut (tgt := 152) C hd63 (by decide) dX1_ofSeal_39 ?_
    exact r_throw0 C tW_IAE dX1_ofSeal_152 dX1_ofSeal_155 dX1_ofSeal_156 dX1_ofSeal_159 (by decide) (by simp [Value.category]) hw.1 hw.2.1 hw.2.2
  · obtain ⟨k9, hk9, e9⟩ := tb_k 8 (by decide) hd63
    match k9, hk9, e9 with
    | 0, _, e9 =>
      have e9 : i2 = (0 : Int32) := e9.trans (by decide)
      have hw := hw.2.1 e9
      refine r_tableAt (k := (0 : Int32)) (off := 45) (tgt := 84) C e9 (by decide) (by decide) (by decide) (by decide) dX1_ofSeal_39 ?_
      refine r_aload_nO C rfl 1 rfl dX1_ofSeal_84 ?_
      obtain ⟨y30, rfl, hw_y30⟩ := hw
      have hw := hw_y30
      refine r_gfI (k := 0) C kX6 (by decide) (Or.inr ⟨_, (List.mem_of_getElem? (i := 28) rfl)⟩) (Or.inl rfl) dX1_ofSeal_85 hw (fun v31 hw => ?_)
      exact r_ireturn C dX1_ofSeal_88 hp28 hp29 ⟨_, rfl, hw⟩
    | 1, _, e9 =>
      have e9 : i2 = (1 : Int32) := e9.trans (by decide)
      have hw := hw.2.2.1 e9
      refine r_tableAt (k := (1 : Int32)) (off := 50) (tgt := 89) C e9 (by decide) (by decide) (by decide) (by decide) dX1_ofSeal_39 ?_
      refine r_aload_nO C rfl 1 rfl dX1_ofSeal_89 ?_
      obtain ⟨y32, rfl, hw_y32⟩ := hw
      have hw := hw_y32
      refine r_gfI (k := 1) C kX6 (by decide) (Or.inr ⟨_, (List.mem_of_getElem? (i := 30) rfl)⟩) (Or.inl rfl) dX1_ofSeal_90 hw (fun v33 hw => ?_)
      exact r_ireturn C dX1_ofSeal_93 hp28 hp29 ⟨_, rfl, hw⟩
    | 2, _, e9 =>
      have e9 : i2 = (2 : Int32) := e9.trans (by decide)
      have hw := hw.2.2.2.1 e9
      refine r_tableAt (k := (2 : Int32)) (off := 55) (tgt := 94) C e9 (by decide) (by decide) (by decide) (by decide) dX1_ofSeal_39 ?_
      refine r_aload_nO C rfl 1 rfl dX1_ofSeal_94 ?_
      obtain ⟨y34, rfl, hw_y34⟩ := hw
      have hw := hw_y34
      refine r_gfI (k := 2) C kX6 (by decide) (Or.inr ⟨_, (List.mem_of_getElem? (i := 33) rfl)⟩) (Or.inl rfl) dX1_ofSeal_95 hw (fun v35 hw => ?_)
      exact r_ireturn C dX1_ofSeal_98 hp28 hp29 ⟨_, rfl, hw⟩
    | 3, _, e9 =>
      have e9 : i2 = (3 : Int32) := e9.trans (by decide)
      have hw := hw.2.2.2.2.1 e9
      refine r_tableAt (k := (3 : Int32)) (off := 60) (tgt := 99) C e9 (by decide) (by decide) (by decide) (by decide) dX1_ofSeal_39 ?_
      refine r_aload_nO C rfl 1 rfl dX1_ofSeal_99 ?_
      obtain ⟨y36, rfl, hw_y36⟩ := hw
      have hw := hw_y36
      refine r_gfI (k := 3) C kX6 (by decide) (Or.inr ⟨_, (List.mem_of_getElem? (i := 35) rfl)⟩) (Or.inl rfl) dX1_ofSeal_100 hw (fun v37 hw => ?_)
      exact r_ireturn C dX1_ofSeal_103 hp28 hp29 ⟨_, rfl, hw⟩
    | 4, _, e9 =>
      have e9 : i2 = (4 : Int32) := e9.trans (by decide)
      have hw := hw.2.2.2.2.2.1 e9
      refine r_tableAt (k := (4 : Int32)) (off := 65) (tgt := 104) C e9 (by decide) (by decide) (by decide) (by decide) dX1_ofSeal_39 ?_
      refine r_aload_nO C rfl 1 rfl dX1_ofSeal_104 ?_
      obtain ⟨y38, rfl, hw_y38⟩ := hw
      have hw := hw_y38
      refine r_gfI (k := 4) C kX6 (by decide) (Or.inr ⟨_, (List.mem_of_getElem? (i := 38) rfl)⟩) (Or.inl rfl) dX1_ofSeal_105 hw (fun v39 hw => ?_)
      exact r_ireturn C dX1_ofSeal_108 hp28 hp29 ⟨_, rfl, hw⟩
    | 5, _, e9 =>
      have e9 : i2 = (5 : Int32) := e9.trans (by decide)
      have hw := hw.2.2.2.2.2.2.1 e9
      refine r_tableAt (k := (5 : Int32)) (off := 70) (tgt := 109) C e9 (by decide) (by decide) (by decide) (by decide) dX1_ofSeal_39 ?_
      refine r_aload_nO C rfl 1 rfl dX1_ofSeal_109 ?_
      obtain ⟨y40, rfl, hw_y40⟩ := hw
      have hw := hw_y40
      refine r_gfI (k := 5) C kX6 (by decide) (Or.inr ⟨_, (List.mem_of_getElem? (i := 40) rfl)⟩) (Or.inl rfl) dX1_ofSeal_110 hw (fun v41 hw => ?_)
      exact r_ireturn C dX1_ofSeal_113 hp28 hp29 ⟨_, rfl, hw⟩
    | 6, _, e9 =>
      have e9 : i2 = (6 : Int32) := e9.trans (by decide)
      have hw := hw.2.2.2.2.2.2.2.1 e9
      refine r_tableAt (k := (6 : Int32)) (off := 75) (tgt := 114) C e9 (by decide) (by decide) (by decide) (by decide) dX1_ofSeal_39 ?_
      refine r_iload C 0 rfl dX1_ofSeal_114 ?_
      exact r_ireturn C dX1_ofSeal_116 hp28 hp29 ⟨_, rfl, hw⟩
    | 7, _, e9 =>
      have e9 : i2 = (7 : Int32) := e9.trans (by decide)
      have hw := hw.2.2.2.2.2.2.2.2 e9
      refine r_tableAt (k := (7 : Int32)) (off := 78) (tgt := 117) C e9 (by decide) (by decide) (by decide) (by decide) dX1_ofSeal_39 ?_
      refine r_iload C 0 rfl dX1_ofSeal_117 (r_iconst (v := (-1 : Int32)) C (by decide) dX1_ofSeal_119 ?_)
      refine r_icmp_ne (tgt := 127) C (by decide) dX1_ofSeal_120 (fun hc42 => ?_) (fun hc42 => ?_)
      · have hw := hw.1 hc42
        refine r_aload_n C rfl 2 rfl dX1_ofSeal_127 ?_
        refine r_gfR (k := 0) C kX1 (by decide) (Or.inl q344) (Or.inl rfl) dX1_ofSeal_128 hw (fun v43 hw => ?_)
        obtain ⟨y44, rfl, hw_y44⟩ := hw
        have hw := hw_y44
        refine r_gfR (k := 3) C kX2 (by decide) (Or.inr ⟨_, (List.mem_of_getElem? (i := 7) rfl)⟩) (Or.inl rfl) dX1_ofSeal_131 hw (fun v45 hw => ?_)
        refine r_iload C 0 rfl dX1_ofSeal_134 ?_
        obtain ⟨y46, rfl, hw_y46⟩ := hw
        have hw := hw_y46
        obtain ⟨hq47, hw⟩ := hw
        refine r_callF (ci := 8) (rest := []) (As := [.int r24]) C (x := ⟨"java/util/List", "get", "(I)Ljava/lang/Object;"⟩) (show ySg ⟨"java/util/List", "get", "(I)Ljava/lang/Object;"⟩ 1 = true by decide +kernel) rfl q887 q453 q455 q81 q457 (List.mem_of_getElem? (i := 6) rfl) rfl (Nat.le_of_ble_eq_true rfl) dX1_ofSeal_136 rfl hq47 hp28 hp29 (cj_J2_get G l y46 r24 h25 _ hw) (k_R (fun r48 h49 hw => ?_))
        obtain ⟨e51, hw⟩ := hw
        refine r_cast (x := r48) C (ci := 9) rfl q1641 dX1_ofSeal_141 e51 ?_
        refine r_iload_n C rfl 3 rfl dX1_ofSeal_144 ?_
        obtain ⟨k54, k55, hp56, hp57, hw⟩ := hw
        refine r_callS (rest := [va_rf r48]) (As := [.int i1]) C sg_J24_valueOf q1642 q896 q105 q897 rfl (by rcases r48 with _ | _ <;> exact Nat.le_of_ble_eq_true rfl) dX1_ofSeal_145 rfl hp56 hp57 (cj_J24_valueOf G l k54 k55 i1 h49 _ hw) (k_R (fun r52 h53 hw => ?_))
        obtain ⟨y58, rfl, hw_y58⟩ := hw
        have hw := hw_y58
        obtain ⟨y59, rfl, hw_y59⟩ := hw
        have hw := hw_y59
        obtain ⟨hq60, hw⟩ := hw
        refine r_callV (ci := 9) (rest := []) (As := [.ref y59]) C sg_J4_indexOf rfl rfl q1643 q970 q971 q83 q972 rfl (Nat.le_of_ble_eq_true rfl) dX1_ofSeal_148 rfl hq60 hp56 hp57 (cj_J4_indexOf G l y58 y59 h53 _ hw) (k_I (fun r61 h62 hw => ?_))
        exact r_ireturn C dX1_ofSeal_151 hp56 hp57 ⟨_, rfl, hw⟩
      · have hw := hw.2 hc42
        refine r_iconst (v := (-1 : Int32)) C (by decide) dX1_ofSeal_123 (r_goto (tgt := 151) C (by decide) dX1_ofSeal_124 ?_)
        exact r_ireturn C dX1_ofSeal_151 hp28 hp29 ⟨_, rfl, hw⟩
    | k9 + 8, hk9, _ => exact absurd hk9 (by omega)
def w_X1_last (a0 : Nat) (h : Hp) (Q : Int32 → Hp → Prop) : Prop :=
  hasC h a0 15 ∧ (wj_J30_isEmpty a0 h (fun r2 h3 => (r2 = false → hasC h3 a0 15 ∧ (wj_J30_length a0 h3 (fun r6 h7 => Q (((1000 : Int32) + r6) - (1 : Int32)) h7))) ∧ (r2 = true → Q (-1 : Int32) h3)))
theorem sg_X1_last : ySg yX1_last 1 = true := by decide +kernel
theorem c_X1_last (G : gT) (l : Launch) (a0 : Nat) (h : Hp) (Q : Int32 → Hp → Prop) (hw : w_X1_last a0 h Q) : Ct G l yX1_last (ws_ yX1_last cX1_last 1 (some .int)) 4 75 0 0 [.ref a0] h (pI Q) := by
  refine Ct.of (own := RX1) false (by decide +kernel) rfl (show (_ : Nat) ≤ _ from Nat.le_of_ble_eq_true rfl) (fun z => by cases z) (fun V C => ?_)
  show V h 0 0 0 [(0, .ref a0)] []
  unfold w_X1_last at hw
  refine r_aload_n C rfl 0 rfl dX1_last_0 ?_
  obtain ⟨hq1, hw⟩ := hw
  refine r_callV (ci := 15) (rest := []) (As := []) C sg_J30_isEmpty rfl rfl q1657 q1511 q1512 q116 q1513 rfl (Nat.le_of_ble_eq_true rfl) dX1_last_1 rfl hq1 (Nat.le_refl _) (Nat.le_refl _) (cj_J30_isEmpty G l a0 h _ hw) (k_Z (fun r2 h3 hw => ?_))
  refine r_if_eq_b (tgt := 11) C (by decide) dX1_last_4 (fun hc4 => ?_) (fun hc4 => ?_)
  · have hw := hw.1 hc4
    refine r_sipush (v := (1000 : Int32)) C (by decide) dX1_last_11 (r_aload_n C rfl 0 rfl dX1_last_14 ?_)
    obtain ⟨hq5, hw⟩ := hw
    refine r_callV (ci := 15) (rest := [.int (1000 : Int32)]) (As := []) C sg_J30_length rfl rfl q1658 q1659 q1660 q116 q1661 rfl (Nat.le_of_ble_eq_true rfl) dX1_last_15 rfl hq5 (Nat.le_refl _) (Nat.le_refl _) (cj_J30_length G l a0 h3 _ hw) (k_I (fun r6 h7 hw => ?_))
    refine r_iadd C dX1_last_18 (r_iconst (v := (1 : Int32)) C (by decide) dX1_last_19 (r_isub C dX1_last_20 ?_))
    exact r_ireturn C dX1_last_21 (Nat.le_refl _) (Nat.le_refl _) ⟨_, rfl, hw⟩
  · have hw := hw.2 hc4
    refine r_iconst (v := (-1 : Int32)) C (by decide) dX1_last_7 (r_goto (tgt := 21) C (by decide) dX1_last_8 ?_)
    exact r_ireturn C dX1_last_21 (Nat.le_refl _) (Nat.le_refl _) ⟨_, rfl, hw⟩
def w_X1_dated (mc ms : Nat) (a0 : Nat) (i1 : Int32) (i2 : Int32) (h : Hp) (X : String → Hp → Prop) (Q : Int32 → Hp → Prop) : Prop :=
  gfR h a0 0 0 (fun v1 => nn v1 (fun y2 => hasC h y2 1 ∧ (w_X2_hasSeal y2 i1 h (fun r4 h5 => ∃ k8 k9 : Nat, 0 + k8 ≤ mc ∧ 0 + k9 ≤ ms ∧ (w_X1_exists k8 k9 r4 h5 X (fun h7 => w_X1_isIn i2.toInt64 (0 : Int64) (3 : Int64) h7 (fun r12 h13 => ∃ k16 k17 : Nat, (0 + k8) + k16 ≤ mc ∧ (0 + k9) + k17 ≤ ms ∧ (w_X1_check k16 k17 r12 h13 X (fun h15 => gfR h15 a0 0 0 (fun v20 => nn v20 (fun y21 => hasC h15 y21 1 ∧ (∃ k25 k26 : Nat, ((0 + k8) + k16) + k25 ≤ mc ∧ ((0 + k9) + k17) + k26 ≤ ms ∧ (w_X2_possible k25 k26 y21 i1 h15 (fun r23 h24 => (¬ i2 = 0 → (¬ i2 = (1 : Int32) → (¬ i2 = (2 : Int32) → gfR h24 a0 0 0 (fun v32 => nn v32 (fun y33 => hasC h24 y33 1 ∧ (∃ k37 k38 : Nat, (((0 + k8) + k16) + k25) + k37 ≤ mc ∧ (((0 + k9) + k17) + k26) + k38 ≤ ms ∧ (w_X2_fake k37 k38 y33 i1 h24 (fun r35 h36 => Q r35 h36)))))) ∧ (i2 = (2 : Int32) → nn r23 (fun y41 => hasC h24 y41 15 ∧ (wj_J30_cardinality y41 h24 (fun r43 h44 => Q r43 h44))))) ∧ (i2 = (1 : Int32) → nn r23 (fun y45 => w_X1_last y45 h24 (fun r46 h47 => Q r46 h47)))) ∧ (i2 = 0 → nn r23 (fun y48 => w_X1_first y48 h24 (fun r49 h50 => Q r49 h50)))))))))))))))))
theorem sg_X1_dated : ySg yX1_dated 2 = true := by decide +kernel
theorem c_X1_dated (G : gT) (l : Launch) (mc ms : Nat) (a0 : Nat) (i1 : Int32) (i2 : Int32) (h : Hp) (X : String → Hp → Prop) (Q : Int32 → Hp → Prop) (hst : l.stackTraces = false) (hw : w_X1_dated mc ms a0 i1 i2 h X Q) : CtX G l yX1_dated (ws_ yX1_dated cX1_dated 4 (some .int)) 12 261 mc ms [.ref a0, .int i1, .int i2] h (pI Q) X := by
  refine CtX.of (own := RX1) hst (by decide +kernel) rfl (show (_ : Nat) ≤ _ from Nat.le_of_ble_eq_true rfl) (fun V C => ?_)
  show V h 0 0 0 [(0, .ref a0), (1, .int i1), (2, .int i2)] []
  unfold w_X1_dated at hw
  refine r_aload_n C rfl 0 rfl dX1_dated_0 ?_
  refine r_gfR (k := 0) C kX1 (by decide) (Or.inl q344) (Or.inl rfl) dX1_dated_1 hw (fun v1 hw => ?_)
  refine r_iload_n C rfl 1 rfl dX1_dated_4 ?_
  obtain ⟨y2, rfl, hw_y2⟩ := hw
  have hw := hw_y2
  obtain ⟨hq3, hw⟩ := hw
  refine r_callV (ci := 1) (rest := []) (As := [.int i1]) C sg_X2_hasSeal rfl rfl q1035 q1036 q1037 q78 q1038 rfl (Nat.le_of_ble_eq_true rfl) dX1_dated_5 rfl hq3 (Nat.zero_le _) (Nat.zero_le _) (c_X2_hasSeal G l y2 i1 h _ hw) (k_Z (fun r4 h5 hw => ?_))
  obtain ⟨k8, k9, hp10, hp11, hw⟩ := hw
  refine r_callSX (rest := []) (As := [.int (bI r4)]) C sg_X1_exists q1599 q1600 q77 q1601 rfl (Nat.le_of_ble_eq_true rfl) dX1_dated_8 rfl hp10 hp11 (c_X1_exists G l k8 k9 r4 h5 X _ (st_C C) hw) (k_V (fun h7 hw => ?_))
  refine r_iload_n C rfl 2 rfl dX1_dated_11 (r_i2l C dX1_dated_12 (r_lconst (v := (0 : Int64)) C (by decide) dX1_dated_13 (r_ldc2 (v := (3 : Int64)) C q1651 dX1_dated_14 ?_)))
  refine r_callS (rest := []) (As := [.long i2.toInt64, .long (0 : Int64), .long (3 : Int64)]) C sg_X1_isIn q399 q400 q77 q401 rfl (Nat.le_of_ble_eq_true rfl) dX1_dated_17 rfl hp10 hp11 (c_X1_isIn G l i2.toInt64 (0 : Int64) (3 : Int64) h7 _ hw) (k_Z (fun r12 h13 hw => ?_))
  obtain ⟨k16, k17, hp18, hp19, hw⟩ := hw
  refine r_callSX (rest := []) (As := [.int (bI r12)]) C sg_X1_check q1332 q1333 q77 q1334 rfl (Nat.le_of_ble_eq_true rfl) dX1_dated_20 rfl hp18 hp19 (c_X1_check G l k16 k17 r12 h13 X _ (st_C C) hw) (k_V (fun h15 hw => ?_))
  refine r_aload_n C rfl 0 rfl dX1_dated_23 ?_
  refine r_gfR (k := 0) C kX1 (by decide) (Or.inl q344) (Or.inl rfl) dX1_dated_24 hw (fun v20 hw => ?_)
  refine r_iload_n C rfl 1 rfl dX1_dated_27 ?_
  obtain ⟨y21, rfl, hw_y21⟩ := hw
  have hw := hw_y21
  obtain ⟨hq22, hw⟩ := hw
  obtain ⟨k25, k26, hp27, hp28, hw⟩ := hw
  refine r_callV (ci := 1) (rest := []) (As := [.int i1]) C sg_X2_possible rfl rfl q1652 q1425 q1426 q78 q1427 rfl (Nat.le_of_ble_eq_true rfl) dX1_dated_28 rfl hq22 hp27 hp28 (c_X2_possible G l k25 k26 y21 i1 h15 _ hw) (k_R (fun r23 h24 hw => ?_))
  refine r_astore_nO (x := r23) (L' := [(3, va_rf r23), (0, .ref a0), (1, .int i1), (2, .int i2)]) C rfl (by decide) rfl dX1_dated_31 (r_iload_n C rfl 3 rfl dX1_dated_32 ?_)
  refine r_if_ne (tgt := 43) C (by decide) dX1_dated_33 (fun hc29 => ?_) (fun hc29 => ?_)
  · have hw := hw.1 hc29
    refine r_iload_n C rfl 3 rfl dX1_dated_43 (r_iconst (v := (1 : Int32)) C (by decide) dX1_dated_44 ?_)
    refine r_icmp_ne (tgt := 55) C (by decide) dX1_dated_45 (fun hc30 => ?_) (fun hc30 => ?_)
    · have hw := hw.1 hc30
      refine r_iload_n C rfl 3 rfl dX1_dated_55 (r_iconst (v := (2 : Int32)) C (by decide) dX1_dated_56 ?_)
      refine r_icmp_ne (tgt := 67) C (by decide) dX1_dated_57 (fun hc31 => ?_) (fun hc31 => ?_)
      · have hw := hw.1 hc31
        refine r_aload_n C rfl 1 rfl dX1_dated_67 ?_
        refine r_gfR (k := 0) C kX1 (by decide) (Or.inl q344) (Or.inl rfl) dX1_dated_68 hw (fun v32 hw => ?_)
        refine r_iload_n C rfl 2 rfl dX1_dated_71 ?_
        obtain ⟨y33, rfl, hw_y33⟩ := hw
        have hw := hw_y33
        obtain ⟨hq34, hw⟩ := hw
        obtain ⟨k37, k38, hp39, hp40, hw⟩ := hw
        refine r_callV (ci := 1) (rest := []) (As := [.int i1]) C sg_X2_fake rfl rfl q1678 q1679 q1680 q78 q1681 rfl (Nat.le_of_ble_eq_true rfl) dX1_dated_72 rfl hq34 hp39 hp40 (c_X2_fake G l k37 k38 y33 i1 h24 _ hw) (k_I (fun r35 h36 hw => ?_))
        exact r_ireturn C dX1_dated_75 hp39 hp40 ⟨_, rfl, hw⟩
      · have hw := hw.2 hc31
        refine r_aload_nO C rfl 0 rfl dX1_dated_60 ?_
        obtain ⟨y41, rfl, hw_y41⟩ := hw
        have hw := hw_y41
        obtain ⟨hq42, hw⟩ := hw
        refine r_callV (ci := 15) (rest := []) (As := []) C sg_J30_cardinality rfl rfl q1668 q1669 q1670 q116 q1671 rfl (Nat.le_of_ble_eq_true rfl) dX1_dated_61 rfl hq42 hp27 hp28 (cj_J30_cardinality G l y41 h24 _ hw) (k_I (fun r43 h44 hw => ?_))
        refine r_goto (tgt := 75) C (by decide) dX1_dated_64 ?_
        exact r_ireturn C dX1_dated_75 hp27 hp28 ⟨_, rfl, hw⟩
    · have hw := hw.2 hc30
      refine r_aload_nO C rfl 0 rfl dX1_dated_48 ?_
      obtain ⟨y45, rfl, hw_y45⟩ := hw
      have hw := hw_y45
      refine r_callS (rest := []) (As := [.ref y45]) C sg_X1_last q1654 q1655 q77 q1656 rfl (Nat.le_of_ble_eq_true rfl) dX1_dated_49 rfl hp27 hp28 (c_X1_last G l y45 h24 _ hw) (k_I (fun r46 h47 hw => ?_))
      refine r_goto (tgt := 75) C (by decide) dX1_dated_52 ?_
      exact r_ireturn C dX1_dated_75 hp27 hp28 ⟨_, rfl, hw⟩
  · have hw := hw.2 hc29
    refine r_aload_nO C rfl 0 rfl dX1_dated_36 ?_
    obtain ⟨y48, rfl, hw_y48⟩ := hw
    have hw := hw_y48
    refine r_callS (rest := []) (As := [.ref y48]) C sg_X1_first q1653 q1561 q77 q1562 rfl (Nat.le_of_ble_eq_true rfl) dX1_dated_37 rfl hp27 hp28 (c_X1_first G l y48 h24 _ hw) (k_I (fun r49 h50 hw => ?_))
    refine r_goto (tgt := 75) C (by decide) dX1_dated_40 ?_
    exact r_ireturn C dX1_dated_75 hp27 hp28 ⟨_, rfl, hw⟩
def w_X1_isPossible (mc ms : Nat) (a0 : Nat) (i1 : Int32) (i2 : Int32) (h : Hp) (X : String → Hp → Prop) (Q : Bool → Hp → Prop) : Prop :=
  gfR h a0 0 0 (fun v1 => nn v1 (fun y2 => hasC h y2 1 ∧ (w_X2_hasSeal y2 i1 h (fun r4 h5 => ∃ k8 k9 : Nat, 0 + k8 ≤ mc ∧ 0 + k9 ≤ ms ∧ (w_X1_exists k8 k9 r4 h5 X (fun h7 => w_X1_isYear i2 h7 (fun r12 h13 => ∃ k16 k17 : Nat, (0 + k8) + k16 ≤ mc ∧ (0 + k9) + k17 ≤ ms ∧ (w_X1_check k16 k17 r12 h13 X (fun h15 => gfR h15 a0 0 0 (fun v20 => nn v20 (fun y21 => hasC h15 y21 1 ∧ (∃ k25 k26 : Nat, ((0 + k8) + k16) + k25 ≤ mc ∧ ((0 + k9) + k17) + k26 ≤ ms ∧ (w_X2_possible k25 k26 y21 i1 h15 (fun r23 h24 => nn r23 (fun y29 => hasC h24 y29 15 ∧ (wj_J30_get y29 (i2 - (1000 : Int32)) h24 (fun r31 h32 => Q r31 h32)))))))))))))))))
theorem sg_X1_isPossible : ySg yX1_isPossible 2 = true := by decide +kernel
theorem c_X1_isPossible (G : gT) (l : Launch) (mc ms : Nat) (a0 : Nat) (i1 : Int32) (i2 : Int32) (h : Hp) (X : String → Hp → Prop) (Q : Bool → Hp → Prop) (hst : l.stackTraces = false) (hw : w_X1_isPossible mc ms a0 i1 i2 h X Q) : CtX G l yX1_isPossible (ws_ yX1_isPossible cX1_isPossible 3 (some .boolean)) 9 191 mc ms [.ref a0, .int i1, .int i2] h (pZ Q) X := by
  refine CtX.of (own := RX1) hst (by decide +kernel) rfl (show (_ : Nat) ≤ _ from Nat.le_of_ble_eq_true rfl) (fun V C => ?_)
  show V h 0 0 0 [(0, .ref a0), (1, .int i1), (2, .int i2)] []
  unfold w_X1_isPossible at hw
  refine r_aload_n C rfl 0 rfl dX1_isPossible_0 ?_
  refine r_gfR (k := 0) C kX1 (by decide) (Or.inl q344) (Or.inl rfl) dX1_isPossible_1 hw (fun v1 hw => ?_)
  refine r_iload_n C rfl 1 rfl dX1_isPossible_4 ?_
  obtain ⟨y2, rfl, hw_y2⟩ := hw
  have hw := hw_y2
  obtain ⟨hq3, hw⟩ := hw
  refine r_callV (ci := 1) (rest := []) (As := [.int i1]) C sg_X2_hasSeal rfl rfl q1035 q1036 q1037 q78 q1038 rfl (Nat.le_of_ble_eq_true rfl) dX1_isPossible_5 rfl hq3 (Nat.zero_le _) (Nat.zero_le _) (c_X2_hasSeal G l y2 i1 h _ hw) (k_Z (fun r4 h5 hw => ?_))
  obtain ⟨k8, k9, hp10, hp11, hw⟩ := hw
  refine r_callSX (rest := []) (As := [.int (bI r4)]) C sg_X1_exists q1599 q1600 q77 q1601 rfl (Nat.le_of_ble_eq_true rfl) dX1_isPossible_8 rfl hp10 hp11 (c_X1_exists G l k8 k9 r4 h5 X _ (st_C C) hw) (k_V (fun h7 hw => ?_))
  refine r_iload_n C rfl 2 rfl dX1_isPossible_11 ?_
  refine r_callS (rest := []) (As := [.int i2]) C sg_X1_isYear q836 q837 q77 q838 rfl (Nat.le_of_ble_eq_true rfl) dX1_isPossible_12 rfl hp10 hp11 (c_X1_isYear G l i2 h7 _ hw) (k_Z (fun r12 h13 hw => ?_))
  obtain ⟨k16, k17, hp18, hp19, hw⟩ := hw
  refine r_callSX (rest := []) (As := [.int (bI r12)]) C sg_X1_check q1332 q1333 q77 q1334 rfl (Nat.le_of_ble_eq_true rfl) dX1_isPossible_15 rfl hp18 hp19 (c_X1_check G l k16 k17 r12 h13 X _ (st_C C) hw) (k_V (fun h15 hw => ?_))
  refine r_aload_n C rfl 0 rfl dX1_isPossible_18 ?_
  refine r_gfR (k := 0) C kX1 (by decide) (Or.inl q344) (Or.inl rfl) dX1_isPossible_19 hw (fun v20 hw => ?_)
  refine r_iload_n C rfl 1 rfl dX1_isPossible_22 ?_
  obtain ⟨y21, rfl, hw_y21⟩ := hw
  have hw := hw_y21
  obtain ⟨hq22, hw⟩ := hw
  obtain ⟨k25, k26, hp27, hp28, hw⟩ := hw
  refine r_callV (ci := 1) (rest := []) (As := [.int i1]) C sg_X2_possible rfl rfl q1652 q1425 q1426 q78 q1427 rfl (Nat.le_of_ble_eq_true rfl) dX1_isPossible_23 rfl hq22 hp27 hp28 (c_X2_possible G l k25 k26 y21 i1 h15 _ hw) (k_R (fun r23 h24 hw => ?_))
  refine r_iload_n C rfl 2 rfl dX1_isPossible_26 (r_sipush (v := (1000 : Int32)) C (by decide) dX1_isPossible_27 (r_isub C dX1_isPossible_30 ?_))
  obtain ⟨y29, rfl, hw_y29⟩ := hw
  have hw := hw_y29
  obtain ⟨hq30, hw⟩ := hw
  refine r_callV (ci := 15) (rest := []) (As := [.int (i2 - (1000 : Int32))]) C sg_J30_get rfl rfl q1689 q1690 q1691 q116 q1692 rfl (Nat.le_of_ble_eq_true rfl) dX1_isPossible_31 rfl hq30 hp27 hp28 (cj_J30_get G l y29 (i2 - (1000 : Int32)) h24 _ hw) (k_Z (fun r31 h32 hw => ?_))
  exact r_zreturn (x := r31) C dX1_isPossible_34 hp27 hp28 ⟨_, rfl, hw⟩
def w_X1_isCharter (i0 : Int32) (h : Hp) (Q : Bool → Hp → Prop) : Prop :=
  w_X1_isIn i0.toInt64 (0 : Int64) (5 : Int64) h (fun r1 h2 => Q r1 h2)
theorem sg_X1_isCharter : ySg yX1_isCharter 1 = true := by decide +kernel
theorem c_X1_isCharter (G : gT) (l : Launch) (i0 : Int32) (h : Hp) (Q : Bool → Hp → Prop) (hw : w_X1_isCharter i0 h Q) : Ct G l yX1_isCharter (ws_ yX1_isCharter cX1_isCharter 1 (some .boolean)) 2 37 0 0 [.int i0] h (pZ Q) := by
  refine Ct.of (own := RX1) false (by decide +kernel) rfl (show (_ : Nat) ≤ _ from Nat.le_of_ble_eq_true rfl) (fun z => by cases z) (fun V C => ?_)
  show V h 0 0 0 [(0, .int i0)] []
  unfold w_X1_isCharter at hw
  refine r_iload_n C rfl 0 rfl dX1_isCharter_0 (r_i2l C dX1_isCharter_1 (r_lconst (v := (0 : Int64)) C (by decide) dX1_isCharter_2 (r_ldc2 (v := (5 : Int64)) C q835 dX1_isCharter_3 ?_)))
  refine r_callS (rest := []) (As := [.long i0.toInt64, .long (0 : Int64), .long (5 : Int64)]) C sg_X1_isIn q399 q400 q77 q401 rfl (Nat.le_of_ble_eq_true rfl) dX1_isCharter_6 rfl (Nat.le_refl _) (Nat.le_refl _) (c_X1_isIn G l i0.toInt64 (0 : Int64) (5 : Int64) h _ hw) (k_Z (fun r1 h2 hw => ?_))
  exact r_zreturn (x := r1) C dX1_isCharter_9 (Nat.le_refl _) (Nat.le_refl _) ⟨_, rfl, hw⟩
def B_X1_charter_135 (mc ms : Nat) (X : String → Hp → Prop) (Q : Int32 → Hp → Prop) (LA90 : Hp → Nat → Nat → Nat → Int32 → (Option Nat) → Int32 → Int32 → Prop) (h : Hp) (c : Nat) (n : Nat) (x0 : Nat) (x1 : Int32) (x3 : Option Nat) (x5 : Int32) (s0 : Int32) (s1 : Bool) : Prop :=
  LA90 h c n x0 x1 x3 (s0 + (bI s1)) (x5 + (1 : Int32))
def S_X1_charter_90 (mc ms : Nat) (X : String → Hp → Prop) (Q : Int32 → Hp → Prop) (LA90 : Hp → Nat → Nat → Nat → Int32 → (Option Nat) → Int32 → Int32 → Prop) (h : Hp) (c : Nat) (n : Nat) (x0 : Nat) (x1 : Int32) (x3 : Option Nat) (x4 : Int32) (x5 : Int32) : Prop :=
  nn x3 (fun y1 => alen h y1 (fun v2 => (v2 ≤ x5 → Q x4 h) ∧ (¬ v2 ≤ x5 → gfR h x0 0 0 (fun v4 => nn v4 (fun y5 => gfR h y5 1 2 (fun v6 => nn v6 (fun y7 => hasC h y7 8 ∧ (wj_J2_get y7 x5 h (fun r9 h10 => (∀ z11 : Nat, r9 = some z11 → hasC h10 z11 5) ∧ (nn r9 (fun y13 => gfI h10 y13 5 5 (fun v14 => (¬ v14 = x1 → B_X1_charter_135 mc ms X Q LA90 h10 c n x0 x1 (some y1) x5 x4 false) ∧ (v14 = x1 → rdI h10 y1 x5 (fun v16 => B_X1_charter_135 mc ms X Q LA90 h10 c n x0 x1 (some y1) x5 x4 (if v16 ≤ 0 then false else true)))))))))))))))
def B_X1_charter_90 (mc ms : Nat) (X : String → Hp → Prop) (Q : Int32 → Hp → Prop) : Nat → Hp → Nat → Nat → Nat → Int32 → (Option Nat) → Int32 → Int32 → Prop
  | 0, _, _, _, _, _, _, _, _ => False
  | k + 1, h, c, n, x0, x1, x3, x4, x5 => S_X1_charter_90 mc ms X Q (B_X1_charter_90 mc ms X Q k) h c n x0 x1 x3 x4 x5
def w_X1_charter (mc ms : Nat) (a0 : Nat) (i1 : Int32) (i2 : Int32) (h : Hp) (X : String → Hp → Prop) (Q : Int32 → Hp → Prop) : Prop :=
  w_X1_isCharter i1 h (fun r19 h20 => ∃ k23 k24 : Nat, 0 + k23 ≤ mc ∧ 0 + k24 ≤ ms ∧ (w_X1_exists k23 k24 r19 h20 X (fun h22 => w_X1_isIn i2.toInt64 (0 : Int64) (4 : Int64) h22 (fun r27 h28 => ∃ k31 k32 : Nat, (0 + k23) + k31 ≤ mc ∧ (0 + k24) + k32 ≤ ms ∧ (w_X1_check k31 k32 r27 h28 X (fun h30 => (¬ i2 = 0 → ((4 : Int32) ≤ i2 → gfR h30 a0 0 0 (fun v37 => nn v37 (fun y38 => hasC h30 y38 1 ∧ (∃ k42 k43 : Nat, ((0 + k23) + k31) + k42 ≤ mc ∧ ((0 + k24) + k32) + k43 ≤ ms ∧ (w_X2_fakes k42 k43 y38 h30 (fun r40 h41 => ∃ k9 : Nat, B_X1_charter_90 mc ms X Q k9 h41 (((0 + k23) + k31) + k42) (((0 + k24) + k32) + k43) a0 i1 r40 (0 : Int32) (0 : Int32))))))) ∧ (¬ (4 : Int32) ≤ i2 → gfR h30 a0 0 0 (fun v46 => nn v46 (fun y47 => hasC h30 y47 1 ∧ (∃ k51 k52 : Nat, ((0 + k23) + k31) + k51 ≤ mc ∧ ((0 + k24) + k32) + k52 ≤ ms ∧ (w_X2_yearsOf k51 k52 y47 i1 (-1 : Int32) h30 (fun r49 h50 => (¬ i2 = (1 : Int32) → (¬ i2 = (2 : Int32) → nn r49 (fun y57 => hasC h50 y57 15 ∧ (wj_J30_cardinality y57 h50 (fun r59 h60 => Q r59 h60)))) ∧ (i2 = (2 : Int32) → nn r49 (fun y61 => w_X1_last y61 h50 (fun r62 h63 => Q r62 h63)))) ∧ (i2 = (1 : Int32) → nn r49 (fun y64 => w_X1_first y64 h50 (fun r65 h66 => Q r65 h66)))))))))) ∧ (i2 = 0 → gfR h30 a0 0 0 (fun v67 => nn v67 (fun y68 => hasC h30 y68 1 ∧ (∃ k72 k73 : Nat, ((0 + k23) + k31) + k72 ≤ mc ∧ ((0 + k24) + k32) + k73 ≤ ms ∧ (w_X2_on k72 k73 y68 i1 h30 (fun r70 h71 => Q r70 h71))))))))))))
theorem b_X1_charter_135 {G : gT} {l : Launch} {V : Hp → Nat → Nat → Nat → List (Nat × Value) → List Value → Prop} {mc ms : Nat} {X : String → Hp → Prop} {Q : Int32 → Hp → Prop} (C : Cx G l V cX1_charter 6 RX1 12 262 mc ms (pI Q) (some X) (some .int) [] false) (LA90 : Hp → Nat → Nat → Nat → Int32 → (Option Nat) → Int32 → Int32 → Prop) (hLA90 : ∀ (h : Hp) (c : Nat) (n : Nat) (x0 : Nat) (x1 : Int32) (x3 : Option Nat) (x4 : Int32) (x5 : Int32), c ≤ mc → n ≤ ms → LA90 h c n x0 x1 x3 x4 x5 → V h c n 90 [(0, .ref x0), (1, .int x1), (3, va_rf x3), (4, .int x4), (5, .int x5)] []) (h : Hp) (c : Nat) (n : Nat) (x0 : Nat) (x1 : Int32) (x3 : Option Nat) (x5 : Int32) (s0 : Int32) (s1 : Bool) (b1 : c ≤ mc) (b2 : n ≤ ms) (hw : B_X1_charter_135 mc ms X Q LA90 h c n x0 x1 x3 x5 s0 s1) : V h c n 135 [(0, .ref x0), (1, .int x1), (3, va_rf x3), (5, .int x5)] [.int (bI s1), .int s0] := by
  unfold B_X1_charter_135 at hw
  refine r_iadd C dX1_charter_135 (r_istore (L' := [(4, .int (s0 + (bI s1))), (0, .ref x0), (1, .int x1), (3, va_rf x3), (5, .int x5)]) C (by decide) (by rcases x3 with _ | _ <;> rfl) dX1_charter_136 (r_iinc (v := x5 + (1 : Int32)) (L' := [(5, .int (x5 + (1 : Int32))), (4, .int (s0 + (bI s1))), (0, .ref x0), (1, .int x1), (3, va_rf x3)]) C (u := 4) rfl (by rfl) (by decide) rfl dX1_charter_138 (r_goto (tgt := 90) C (by decide) dX1_charter_141 ?_)))
  exact r_sub C [2, 3, 4, 1, 0] rfl (hLA90 _ _ _ _ _ _ _ _ b1 b2 hw)
theorem s_X1_charter_90 {G : gT} {l : Launch} {V : Hp → Nat → Nat → Nat → List (Nat × Value) → List Value → Prop} {mc ms : Nat} {X : String → Hp → Prop} {Q : Int32 → Hp → Prop} (C : Cx G l V cX1_charter 6 RX1 12 262 mc ms (pI Q) (some X) (some .int) [] false) (LA90 : Hp → Nat → Nat → Nat → Int32 → (Option Nat) → Int32 → Int32 → Prop) (hLA90 : ∀ (h : Hp) (c : Nat) (n : Nat) (x0 : Nat) (x1 : Int32) (x3 : Option Nat) (x4 : Int32) (x5 : Int32), c ≤ mc → n ≤ ms → LA90 h c n x0 x1 x3 x4 x5 → V h c n 90 [(0, .ref x0), (1, .int x1), (3, va_rf x3), (4, .int x4), (5, .int x5)] []) (h : Hp) (c : Nat) (n : Nat) (x0 : Nat) (x1 : Int32) (x3 : Option Nat) (x4 : Int32) (x5 : Int32) (b1 : c ≤ mc) (b2 : n ≤ ms) (hw : S_X1_charter_90 mc ms X Q LA90 h c n x0 x1 x3 x4 x5) : V h c n 90 [(0, .ref x0), (1, .int x1), (3, va_rf x3), (4, .int x4), (5, .int x5)] [] := by
  unfold S_X1_charter_90 at hw
  refine r_iload C 4 rfl dX1_charter_90 (r_aload_nO C rfl 2 rfl dX1_charter_92 ?_)
  obtain ⟨y1, rfl, hw_y1⟩ := hw
  have hw := hw_y1
  refine r_alen C dX1_charter_93 hw (fun v2 hw => ?_)
  refine r_icmp_ge (tgt := 144) C (by decide) dX1_charter_94 (fun hc3 => ?_) (fun hc3 => ?_)
  · have hw := hw.1 hc3
    refine r_iload C 3 rfl dX1_charter_144 ?_
    exact r_ireturn C dX1_charter_146 b1 b2 ⟨_, rfl, hw⟩
  · have hw := hw.2 hc3
    refine r_iload C 3 rfl dX1_charter_97 (r_aload_n C rfl 0 rfl dX1_charter_99 ?_)
    refine r_gfR (k := 0) C kX1 (by decide) (Or.inl q344) (Or.inl rfl) dX1_charter_100 hw (fun v4 hw => ?_)
    obtain ⟨y5, rfl, hw_y5⟩ := hw
    have hw := hw_y5
    refine r_gfR (k := 2) C kX2 (by decide) (Or.inr ⟨_, (List.mem_of_getElem? (i := 5) rfl)⟩) (Or.inl rfl) dX1_charter_103 hw (fun v6 hw => ?_)
    refine r_iload C 4 rfl dX1_charter_106 ?_
    obtain ⟨y7, rfl, hw_y7⟩ := hw
    have hw := hw_y7
    obtain ⟨hq8, hw⟩ := hw
    refine r_callF (ci := 8) (rest := [.int x4]) (As := [.int x5]) C (x := ⟨"java/util/List", "get", "(I)Ljava/lang/Object;"⟩) (show ySg ⟨"java/util/List", "get", "(I)Ljava/lang/Object;"⟩ 1 = true by decide +kernel) rfl q887 q453 q455 q81 q457 (List.mem_of_getElem? (i := 6) rfl) rfl (Nat.le_of_ble_eq_true rfl) dX1_charter_108 rfl hq8 b1 b2 (cj_J2_get G l y7 x5 h _ hw) (k_R (fun r9 h10 hw => ?_))
    obtain ⟨e12, hw⟩ := hw
    refine r_cast (x := r9) C (ci := 5) rfl q1534 dX1_charter_113 e12 ?_
    obtain ⟨y13, rfl, hw_y13⟩ := hw
    have hw := hw_y13
    refine r_gfI (k := 5) C kX6 (by decide) (Or.inr ⟨_, (List.mem_of_getElem? (i := 40) rfl)⟩) (Or.inl rfl) dX1_charter_116 hw (fun v14 hw => ?_)
    refine r_iload_n C rfl 1 rfl dX1_charter_119 ?_
    refine r_icmp_ne (tgt := 134) C (by decide) dX1_charter_120 (fun hc15 => ?_) (fun hc15 => ?_)
    · have hw := hw.1 hc15
      refine r_iconst (v := (0 : Int32)) C (by decide) dX1_charter_134 ?_
      exact r_sub C [0, 1, 2, 4] rfl (b_X1_charter_135 C LA90 hLA90 _ _ _ _ _ _ _ _ _ b1 b2 hw)
    · have hw := hw.2 hc15
      refine r_aload_n C rfl 2 rfl dX1_charter_123 (r_iload C 4 rfl dX1_charter_124 ?_)
      refine r_iaload C dX1_charter_126 hw (fun v16 hw => ?_)
      have hJ : V h10 c n 135 [(0, .ref x0), (1, .int x1), (3, .ref y1), (5, .int x5)] [.int (bI (if v16 ≤ 0 then false else true)), .int x4] := by
        exact r_sub C [0, 1, 2, 3] rfl (b_X1_charter_135 C LA90 hLA90 _ _ _ _ _ _ _ _ _ b1 b2 hw)
      refine r_if_le (tgt := 134) C (by decide) dX1_charter_127 (fun hc17 => ?_) (fun hc17 => ?_)
      · have hJ18 := hJ
        try simp only [if_pos hc17] at hJ18
        refine r_iconst (v := (0 : Int32)) C (by decide) dX1_charter_134 ?_
        exact r_sub C [0, 1, 2, 4] rfl hJ18
      · have hJ18 := hJ
        try simp only [if_neg hc17] at hJ18
        refine r_iconst (v := (1 : Int32)) C (by decide) dX1_charter_130 (r_goto (tgt := 135) C (by decide) dX1_charter_131 ?_)
        exact r_sub C [0, 1, 2, 4] rfl hJ18
theorem b_X1_charter_90 {G : gT} {l : Launch} {V : Hp → Nat → Nat → Nat → List (Nat × Value) → List Value → Prop} {mc ms : Nat} {X : String → Hp → Prop} {Q : Int32 → Hp → Prop} (C : Cx G l V cX1_charter 6 RX1 12 262 mc ms (pI Q) (some X) (some .int) [] false) : ∀ (k : Nat) (h : Hp) (c : Nat) (n : Nat) (x0 : Nat) (x1 : Int32) (x3 : Option Nat) (x4 : Int32) (x5 : Int32), c ≤ mc → n ≤ ms → B_X1_charter_90 mc ms X Q k h c n x0 x1 x3 x4 x5 → V h c n 90 [(0, .ref x0), (1, .int x1), (3, va_rf x3), (4, .int x4), (5, .int x5)] [] := by
  intro k
  induction k with
  | zero =>
    intro h c n x0 x1 x3 x4 x5 b1 b2 hw
    exact hw.elim
  | succ k ih =>
    intro h c n x0 x1 x3 x4 x5 b1 b2 hw
    exact s_X1_charter_90 C _ (fun h c n x0 x1 x3 x4 x5 b1 b2 hw => ih h c n x0 x1 x3 x4 x5 b1 b2 hw) h c n x0 x1 x3 x4 x5 b1 b2 hw
theorem sg_X1_charter : ySg yX1_charter 2 = true := by decide +kernel
theorem c_X1_charter (G : gT) (l : Launch) (mc ms : Nat) (a0 : Nat) (i1 : Int32) (i2 : Int32) (h : Hp) (X : String → Hp → Prop) (Q : Int32 → Hp → Prop) (hst : l.stackTraces = false) (hw : w_X1_charter mc ms a0 i1 i2 h X Q) : CtX G l yX1_charter (ws_ yX1_charter cX1_charter 6 (some .int)) 12 262 mc ms [.ref a0, .int i1, .int i2] h (pI Q) X := by
  refine CtX.of (own := RX1) hst (by decide +kernel) rfl (show (_ : Nat) ≤ _ from Nat.le_of_ble_eq_true rfl) (fun V C => ?_)
  show V h 0 0 0 [(0, .ref a0), (1, .int i1), (2, .int i2)] []
  unfold w_X1_charter at hw
  refine r_iload_n C rfl 1 rfl dX1_charter_0 ?_
  refine r_callS (rest := []) (As := [.int i1]) C sg_X1_isCharter q1700 q1701 q77 q1702 rfl (Nat.le_of_ble_eq_true rfl) dX1_charter_1 rfl (Nat.zero_le _) (Nat.zero_le _) (c_X1_isCharter G l i1 h _ hw) (k_Z (fun r19 h20 hw => ?_))
  obtain ⟨k23, k24, hp25, hp26, hw⟩ := hw
  refine r_callSX (rest := []) (As := [.int (bI r19)]) C sg_X1_exists q1599 q1600 q77 q1601 rfl (Nat.le_of_ble_eq_true rfl) dX1_charter_4 rfl hp25 hp26 (c_X1_exists G l k23 k24 r19 h20 X _ (st_C C) hw) (k_V (fun h22 hw => ?_))
  refine r_iload_n C rfl 2 rfl dX1_charter_7 (r_i2l C dX1_charter_8 (r_lconst (v := (0 : Int64)) C (by decide) dX1_charter_9 (r_ldc2 (v := (4 : Int64)) C q1703 dX1_charter_10 ?_)))
  refine r_callS (rest := []) (As := [.long i2.toInt64, .long (0 : Int64), .long (4 : Int64)]) C sg_X1_isIn q399 q400 q77 q401 rfl (Nat.le_of_ble_eq_true rfl) dX1_charter_13 rfl hp25 hp26 (c_X1_isIn G l i2.toInt64 (0 : Int64) (4 : Int64) h22 _ hw) (k_Z (fun r27 h28 hw => ?_))
  obtain ⟨k31, k32, hp33, hp34, hw⟩ := hw
  refine r_callSX (rest := []) (As := [.int (bI r27)]) C sg_X1_check q1332 q1333 q77 q1334 rfl (Nat.le_of_ble_eq_true rfl) dX1_charter_16 rfl hp33 hp34 (c_X1_check G l k31 k32 r27 h28 X _ (st_C C) hw) (k_V (fun h30 hw => ?_))
  refine r_iload_n C rfl 2 rfl dX1_charter_19 ?_
  refine r_if_ne (tgt := 32) C (by decide) dX1_charter_20 (fun hc35 => ?_) (fun hc35 => ?_)
  · have hw := hw.1 hc35
    refine r_iload_n C rfl 2 rfl dX1_charter_32 (r_iconst (v := (4 : Int32)) C (by decide) dX1_charter_33 ?_)
    refine r_icmp_ge (tgt := 76) C (by decide) dX1_charter_34 (fun hc36 => ?_) (fun hc36 => ?_)
    · have hw := hw.1 hc36
      refine r_aload_n C rfl 0 rfl dX1_charter_76 ?_
      refine r_gfR (k := 0) C kX1 (by decide) (Or.inl q344) (Or.inl rfl) dX1_charter_77 hw (fun v37 hw => ?_)
      obtain ⟨y38, rfl, hw_y38⟩ := hw
      have hw := hw_y38
      obtain ⟨hq39, hw⟩ := hw
      obtain ⟨k42, k43, hp44, hp45, hw⟩ := hw
      refine r_callV (ci := 1) (rest := []) (As := []) C sg_X2_fakes rfl rfl q1533 q1384 q1385 q78 q1386 rfl (Nat.le_of_ble_eq_true rfl) dX1_charter_80 rfl hq39 hp44 hp45 (c_X2_fakes G l k42 k43 y38 h30 _ hw) (k_R (fun r40 h41 hw => ?_))
      refine r_astore_nO (x := r40) (L' := [(3, va_rf r40), (0, .ref a0), (1, .int i1), (2, .int i2)]) C rfl (by decide) rfl dX1_charter_83 (r_iconst (v := (0 : Int32)) C (by decide) dX1_charter_84 (r_istore (L' := [(4, .int (0 : Int32)), (3, va_rf r40), (0, .ref a0), (1, .int i1), (2, .int i2)]) C (by decide) (by rcases r40 with _ | _ <;> rfl) dX1_charter_85 (r_iconst (v := (0 : Int32)) C (by decide) dX1_charter_87 (r_istore (L' := [(5, .int (0 : Int32)), (4, .int (0 : Int32)), (3, va_rf r40), (0, .ref a0), (1, .int i1), (2, .int i2)]) C (by decide) rfl dX1_charter_88 ?_))))
      obtain ⟨k9, hw⟩ := hw
      exact r_sub C [3, 4, 2, 1, 0] rfl (b_X1_charter_90 C _ _ _ _ _ _ _ _ _ hp44 hp45 hw)
    · have hw := hw.2 hc36
      refine r_aload_n C rfl 0 rfl dX1_charter_37 ?_
      refine r_gfR (k := 0) C kX1 (by decide) (Or.inl q344) (Or.inl rfl) dX1_charter_38 hw (fun v46 hw => ?_)
      refine r_iload_n C rfl 1 rfl dX1_charter_41 (r_iconst (v := (-1 : Int32)) C (by decide) dX1_charter_42 ?_)
      obtain ⟨y47, rfl, hw_y47⟩ := hw
      have hw := hw_y47
      obtain ⟨hq48, hw⟩ := hw
      obtain ⟨k51, k52, hp53, hp54, hw⟩ := hw
      refine r_callV (ci := 1) (rest := []) (As := [.int i1, .int (-1 : Int32)]) C sg_X2_yearsOf rfl rfl q1704 q1388 q1389 q78 q1390 rfl (Nat.le_of_ble_eq_true rfl) dX1_charter_43 rfl hq48 hp53 hp54 (c_X2_yearsOf G l k51 k52 y47 i1 (-1 : Int32) h30 _ hw) (k_R (fun r49 h50 hw => ?_))
      refine r_astore_nO (x := r49) (L' := [(3, va_rf r49), (0, .ref a0), (1, .int i1), (2, .int i2)]) C rfl (by decide) rfl dX1_charter_46 (r_iload_n C rfl 3 rfl dX1_charter_47 (r_iconst (v := (1 : Int32)) C (by decide) dX1_charter_48 ?_))
      refine r_icmp_ne (tgt := 59) C (by decide) dX1_charter_49 (fun hc55 => ?_) (fun hc55 => ?_)
      · have hw := hw.1 hc55
        refine r_iload_n C rfl 3 rfl dX1_charter_59 (r_iconst (v := (2 : Int32)) C (by decide) dX1_charter_60 ?_)
        refine r_icmp_ne (tgt := 71) C (by decide) dX1_charter_61 (fun hc56 => ?_) (fun hc56 => ?_)
        · have hw := hw.1 hc56
          refine r_aload_nO C rfl 0 rfl dX1_charter_71 ?_
          obtain ⟨y57, rfl, hw_y57⟩ := hw
          have hw := hw_y57
          obtain ⟨hq58, hw⟩ := hw
          refine r_callV (ci := 15) (rest := []) (As := []) C sg_J30_cardinality rfl rfl q1668 q1669 q1670 q116 q1671 rfl (Nat.le_of_ble_eq_true rfl) dX1_charter_72 rfl hq58 hp53 hp54 (cj_J30_cardinality G l y57 h50 _ hw) (k_I (fun r59 h60 hw => ?_))
          exact r_ireturn C dX1_charter_75 hp53 hp54 ⟨_, rfl, hw⟩
        · have hw := hw.2 hc56
          refine r_aload_nO C rfl 0 rfl dX1_charter_64 ?_
          obtain ⟨y61, rfl, hw_y61⟩ := hw
          have hw := hw_y61
          refine r_callS (rest := []) (As := [.ref y61]) C sg_X1_last q1654 q1655 q77 q1656 rfl (Nat.le_of_ble_eq_true rfl) dX1_charter_65 rfl hp53 hp54 (c_X1_last G l y61 h50 _ hw) (k_I (fun r62 h63 hw => ?_))
          refine r_goto (tgt := 75) C (by decide) dX1_charter_68 ?_
          exact r_ireturn C dX1_charter_75 hp53 hp54 ⟨_, rfl, hw⟩
      · have hw := hw.2 hc55
        refine r_aload_nO C rfl 0 rfl dX1_charter_52 ?_
        obtain ⟨y64, rfl, hw_y64⟩ := hw
        have hw := hw_y64
        refine r_callS (rest := []) (As := [.ref y64]) C sg_X1_first q1653 q1561 q77 q1562 rfl (Nat.le_of_ble_eq_true rfl) dX1_charter_53 rfl hp53 hp54 (c_X1_first G l y64 h50 _ hw) (k_I (fun r65 h66 hw => ?_))
        refine r_goto (tgt := 75) C (by decide) dX1_charter_56 ?_
        exact r_ireturn C dX1_charter_75 hp53 hp54 ⟨_, rfl, hw⟩
  · have hw := hw.2 hc35
    refine r_aload_n C rfl 0 rfl dX1_charter_23 ?_
    refine r_gfR (k := 0) C kX1 (by decide) (Or.inl q344) (Or.inl rfl) dX1_charter_24 hw (fun v67 hw => ?_)
    refine r_iload_n C rfl 1 rfl dX1_charter_27 ?_
    obtain ⟨y68, rfl, hw_y68⟩ := hw
    have hw := hw_y68
    obtain ⟨hq69, hw⟩ := hw
    obtain ⟨k72, k73, hp74, hp75, hw⟩ := hw
    refine r_callV (ci := 1) (rest := []) (As := [.int i1]) C sg_X2_on rfl rfl q1528 q1044 q1045 q78 q1046 rfl (Nat.le_of_ble_eq_true rfl) dX1_charter_28 rfl hq69 hp74 hp75 (c_X2_on G l k72 k73 y68 i1 h30 _ hw) (k_I (fun r70 h71 hw => ?_))
    exact r_ireturn C dX1_charter_31 hp74 hp75 ⟨_, rfl, hw⟩
def w_X1_isShelf (i0 : Int32) (h : Hp) (Q : Bool → Hp → Prop) : Prop :=
  w_X1_isIn i0.toInt64 (0 : Int64) (5 : Int64) h (fun r1 h2 => Q r1 h2)
theorem sg_X1_isShelf : ySg yX1_isShelf 1 = true := by decide +kernel
theorem c_X1_isShelf (G : gT) (l : Launch) (i0 : Int32) (h : Hp) (Q : Bool → Hp → Prop) (hw : w_X1_isShelf i0 h Q) : Ct G l yX1_isShelf (ws_ yX1_isShelf cX1_isShelf 1 (some .boolean)) 2 37 0 0 [.int i0] h (pZ Q) := by
  refine Ct.of (own := RX1) false (by decide +kernel) rfl (show (_ : Nat) ≤ _ from Nat.le_of_ble_eq_true rfl) (fun z => by cases z) (fun V C => ?_)
  show V h 0 0 0 [(0, .int i0)] []
  unfold w_X1_isShelf at hw
  refine r_iload_n C rfl 0 rfl dX1_isShelf_0 (r_i2l C dX1_isShelf_1 (r_lconst (v := (0 : Int64)) C (by decide) dX1_isShelf_2 (r_ldc2 (v := (5 : Int64)) C q835 dX1_isShelf_3 ?_)))
  refine r_callS (rest := []) (As := [.long i0.toInt64, .long (0 : Int64), .long (5 : Int64)]) C sg_X1_isIn q399 q400 q77 q401 rfl (Nat.le_of_ble_eq_true rfl) dX1_isShelf_6 rfl (Nat.le_refl _) (Nat.le_refl _) (c_X1_isIn G l i0.toInt64 (0 : Int64) (5 : Int64) h _ hw) (k_Z (fun r1 h2 hw => ?_))
  exact r_zreturn (x := r1) C dX1_isShelf_9 (Nat.le_refl _) (Nat.le_refl _) ⟨_, rfl, hw⟩
def w_X1_onShelf (mc ms : Nat) (a0 : Nat) (i1 : Int32) (i2 : Int32) (h : Hp) (X : String → Hp → Prop) (Q : Int32 → Hp → Prop) : Prop :=
  w_X1_isShelf i1 h (fun r1 h2 => ∃ k5 k6 : Nat, 0 + k5 ≤ mc ∧ 0 + k6 ≤ ms ∧ (w_X1_exists k5 k6 r1 h2 X (fun h4 => ∃ k11 k12 : Nat, (0 + k5) + k11 ≤ mc ∧ (0 + k6) + k12 ≤ ms ∧ (w_X1_check k11 k12 (if i2 < 0 then false else true) h4 X (fun h10 => gfR h10 a0 0 0 (fun v15 => nn v15 (fun y16 => gfR h10 y16 1 3 (fun v17 => nn v17 (fun y18 => hasC h10 y18 8 ∧ (wj_J2_get y18 i1 h10 (fun r20 h21 => (∀ z22 : Nat, r20 = some z22 → hasC h21 z22 9) ∧ (nn r20 (fun y24 => hasC h21 y24 9 ∧ (wj_J4_size y24 h21 (fun r26 h27 => (r26 ≤ i2 → Q (-1 : Int32) h27) ∧ (¬ r26 ≤ i2 → gfR h27 a0 0 0 (fun v29 => nn v29 (fun y30 => gfR h27 y30 1 3 (fun v31 => nn v31 (fun y32 => hasC h27 y32 8 ∧ (wj_J2_get y32 i1 h27 (fun r34 h35 => (∀ z36 : Nat, r34 = some z36 → hasC h35 z36 9) ∧ (nn r34 (fun y38 => hasC h35 y38 9 ∧ (wj_J4_get y38 i2 h35 (fun r40 h41 => (∀ z42 : Nat, r40 = some z42 → hasC h41 z42 12) ∧ (nn r40 (fun y44 => hasC h41 y44 12 ∧ (wj_J24_intValue y44 h41 (fun r46 h47 => Q r46 h47))))))))))))))))))))))))))))))
theorem sg_X1_onShelf : ySg yX1_onShelf 2 = true := by decide +kernel
theorem c_X1_onShelf (G : gT) (l : Launch) (mc ms : Nat) (a0 : Nat) (i1 : Int32) (i2 : Int32) (h : Hp) (X : String → Hp → Prop) (Q : Int32 → Hp → Prop) (hst : l.stackTraces = false) (hw : w_X1_onShelf mc ms a0 i1 i2 h X Q) : CtX G l yX1_onShelf (ws_ yX1_onShelf cX1_onShelf 3 (some .int)) 7 110 mc ms [.ref a0, .int i1, .int i2] h (pI Q) X := by
  refine CtX.of (own := RX1) hst (by decide +kernel) rfl (show (_ : Nat) ≤ _ from Nat.le_of_ble_eq_true rfl) (fun V C => ?_)
  show V h 0 0 0 [(0, .ref a0), (1, .int i1), (2, .int i2)] []
  unfold w_X1_onShelf at hw
  refine r_iload_n C rfl 1 rfl dX1_onShelf_0 ?_
  refine r_callS (rest := []) (As := [.int i1]) C sg_X1_isShelf q1712 q1713 q77 q1714 rfl (Nat.le_of_ble_eq_true rfl) dX1_onShelf_1 rfl (Nat.zero_le _) (Nat.zero_le _) (c_X1_isShelf G l i1 h _ hw) (k_Z (fun r1 h2 hw => ?_))
  obtain ⟨k5, k6, hp7, hp8, hw⟩ := hw
  refine r_callSX (rest := []) (As := [.int (bI r1)]) C sg_X1_exists q1599 q1600 q77 q1601 rfl (Nat.le_of_ble_eq_true rfl) dX1_onShelf_4 rfl hp7 hp8 (c_X1_exists G l k5 k6 r1 h2 X _ (st_C C) hw) (k_V (fun h4 hw => ?_))
  refine r_iload_n C rfl 2 rfl dX1_onShelf_7 ?_
  have hJ : V h4 (0 + k5) (0 + k6) 16 [(0, .ref a0), (1, .int i1), (2, .int i2)] [.int (bI (if i2 < 0 then false else true))] := by
    obtain ⟨k11, k12, hp13, hp14, hw⟩ := hw
    refine r_callSX (rest := []) (As := [.int (bI (if i2 < 0 then false else true))]) C sg_X1_check q1332 q1333 q77 q1334 rfl (Nat.le_of_ble_eq_true rfl) dX1_onShelf_16 rfl hp13 hp14 (c_X1_check G l k11 k12 (if i2 < 0 then false else true) h4 X _ (st_C C) hw) (k_V (fun h10 hw => ?_))
    refine r_iload_n C rfl 2 rfl dX1_onShelf_19 (r_aload_n C rfl 0 rfl dX1_onShelf_20 ?_)
    refine r_gfR (k := 0) C kX1 (by decide) (Or.inl q344) (Or.inl rfl) dX1_onShelf_21 hw (fun v15 hw => ?_)
    obtain ⟨y16, rfl, hw_y16⟩ := hw
    have hw := hw_y16
    refine r_gfR (k := 3) C kX2 (by decide) (Or.inr ⟨_, (List.mem_of_getElem? (i := 7) rfl)⟩) (Or.inl rfl) dX1_onShelf_24 hw (fun v17 hw => ?_)
    refine r_iload_n C rfl 1 rfl dX1_onShelf_27 ?_
    obtain ⟨y18, rfl, hw_y18⟩ := hw
    have hw := hw_y18
    obtain ⟨hq19, hw⟩ := hw
    refine r_callF (ci := 8) (rest := [.int i2]) (As := [.int i1]) C (x := ⟨"java/util/List", "get", "(I)Ljava/lang/Object;"⟩) (show ySg ⟨"java/util/List", "get", "(I)Ljava/lang/Object;"⟩ 1 = true by decide +kernel) rfl q887 q453 q455 q81 q457 (List.mem_of_getElem? (i := 6) rfl) rfl (Nat.le_of_ble_eq_true rfl) dX1_onShelf_28 rfl hq19 hp13 hp14 (cj_J2_get G l y18 i1 h10 _ hw) (k_R (fun r20 h21 hw => ?_))
    obtain ⟨e23, hw⟩ := hw
    refine r_cast (x := r20) C (ci := 9) rfl q1641 dX1_onShelf_33 e23 ?_
    obtain ⟨y24, rfl, hw_y24⟩ := hw
    have hw := hw_y24
    obtain ⟨hq25, hw⟩ := hw
    refine r_callV (ci := 9) (rest := [.int i2]) (As := []) C sg_J4_size rfl rfl q1715 q421 q2649 q83 q423 rfl (Nat.le_of_ble_eq_true rfl) dX1_onShelf_36 rfl hq25 hp13 hp14 (cj_J4_size G l y24 h21 _ hw) (k_I (fun r26 h27 hw => ?_))
    refine r_icmp_ge (tgt := 71) C (by decide) dX1_onShelf_39 (fun hc28 => ?_) (fun hc28 => ?_)
    · have hw := hw.1 hc28
      refine r_iconst (v := (-1 : Int32)) C (by decide) dX1_onShelf_71 ?_
      exact r_ireturn C dX1_onShelf_72 hp13 hp14 ⟨_, rfl, hw⟩
    · have hw := hw.2 hc28
      refine r_aload_n C rfl 0 rfl dX1_onShelf_42 ?_
      refine r_gfR (k := 0) C kX1 (by decide) (Or.inl q344) (Or.inl rfl) dX1_onShelf_43 hw (fun v29 hw => ?_)
      obtain ⟨y30, rfl, hw_y30⟩ := hw
      have hw := hw_y30
      refine r_gfR (k := 3) C kX2 (by decide) (Or.inr ⟨_, (List.mem_of_getElem? (i := 7) rfl)⟩) (Or.inl rfl) dX1_onShelf_46 hw (fun v31 hw => ?_)
      refine r_iload_n C rfl 1 rfl dX1_onShelf_49 ?_
      obtain ⟨y32, rfl, hw_y32⟩ := hw
      have hw := hw_y32
      obtain ⟨hq33, hw⟩ := hw
      refine r_callF (ci := 8) (rest := []) (As := [.int i1]) C (x := ⟨"java/util/List", "get", "(I)Ljava/lang/Object;"⟩) (show ySg ⟨"java/util/List", "get", "(I)Ljava/lang/Object;"⟩ 1 = true by decide +kernel) rfl q887 q453 q455 q81 q457 (List.mem_of_getElem? (i := 6) rfl) rfl (Nat.le_of_ble_eq_true rfl) dX1_onShelf_50 rfl hq33 hp13 hp14 (cj_J2_get G l y32 i1 h27 _ hw) (k_R (fun r34 h35 hw => ?_))
      obtain ⟨e37, hw⟩ := hw
      refine r_cast (x := r34) C (ci := 9) rfl q1641 dX1_onShelf_55 e37 ?_
      refine r_iload_n C rfl 2 rfl dX1_onShelf_58 ?_
      obtain ⟨y38, rfl, hw_y38⟩ := hw
      have hw := hw_y38
      obtain ⟨hq39, hw⟩ := hw
      refine r_callV (ci := 9) (rest := []) (As := [.int i2]) C sg_J4_get rfl rfl q1716 q470 q2651 q83 q472 rfl (Nat.le_of_ble_eq_true rfl) dX1_onShelf_59 rfl hq39 hp13 hp14 (cj_J4_get G l y38 i2 h35 _ hw) (k_R (fun r40 h41 hw => ?_))
      obtain ⟨e43, hw⟩ := hw
      refine r_cast (x := r40) C (ci := 12) rfl q1627 dX1_onShelf_62 e43 ?_
      obtain ⟨y44, rfl, hw_y44⟩ := hw
      have hw := hw_y44
      obtain ⟨hq45, hw⟩ := hw
      refine r_callV (ci := 12) (rest := []) (As := []) C sg_J24_intValue rfl rfl q1628 q952 q953 q105 q954 rfl (Nat.le_of_ble_eq_true rfl) dX1_onShelf_65 rfl hq45 hp13 hp14 (cj_J24_intValue G l y44 h41 _ hw) (k_I (fun r46 h47 hw => ?_))
      refine r_goto (tgt := 72) C (by decide) dX1_onShelf_68 ?_
      exact r_ireturn C dX1_onShelf_72 hp13 hp14 ⟨_, rfl, hw⟩
  refine r_if_lt (tgt := 15) C (by decide) dX1_onShelf_8 (fun hc48 => ?_) (fun hc48 => ?_)
  · have hJ49 := hJ
    try simp only [if_pos hc48] at hJ49
    refine r_iconst (v := (0 : Int32)) C (by decide) dX1_onShelf_15 ?_
    exact r_sub C [0, 1, 2] rfl hJ49
  · have hJ49 := hJ
    try simp only [if_neg hc48] at hJ49
    refine r_iconst (v := (1 : Int32)) C (by decide) dX1_onShelf_11 (r_goto (tgt := 16) C (by decide) dX1_onShelf_12 ?_)
    exact r_sub C [0, 1, 2] rfl hJ49
def B_X1_remember_20 (mc ms : Nat) (Q : Hp → Prop) (h : Hp) (c : Nat) (n : Nat) (x0 : Nat) : Prop :=
  gfR h x0 0 1 (fun v1 => gfR h x0 0 0 (fun v2 => nn v1 (fun y3 => nn v2 (fun y4 => hasC h y3 11 ∧ (wj_J9_addLast y3 y4 h (fun h7 => gfR h7 x0 0 0 (fun v8 => nn v8 (fun y9 => hasC h7 y9 1 ∧ (∃ k13 k14 : Nat, c + k13 ≤ mc ∧ n + k14 ≤ ms ∧ (w_X2_copy k13 k14 y9 h7 (fun r11 h12 => pf h12 x0 0 0 (va_rf r11) (fun h17 => Q h17))))))))))))
def w_X1_remember (mc ms : Nat) (a0 : Nat) (h : Hp) (Q : Hp → Prop) : Prop :=
  gfR h a0 0 1 (fun v18 => nn v18 (fun y19 => hasC h y19 11 ∧ (wj_J9_size y19 h (fun r21 h22 => (¬ r21 = (14 : Int32) → B_X1_remember_20 mc ms Q h22 0 0 a0) ∧ (r21 = (14 : Int32) → gfR h22 a0 0 1 (fun v24 => nn v24 (fun y25 => hasC h22 y25 11 ∧ (wj_J9_pollFirst y25 h22 (fun r27 h28 => B_X1_remember_20 mc ms Q h28 0 0 a0)))))))))
theorem b_X1_remember_20 {G : gT} {l : Launch} {V : Hp → Nat → Nat → Nat → List (Nat × Value) → List Value → Prop} {mc ms : Nat} {Q : Hp → Prop} (C : Cx G l V cX1_remember 1 RX1 9 238 mc ms (pV Q) none (none) [] false) (h : Hp) (c : Nat) (n : Nat) (x0 : Nat) (b1 : c ≤ mc) (b2 : n ≤ ms) (hw : B_X1_remember_20 mc ms Q h c n x0) : V h c n 20 [(0, .ref x0)] [] := by
  unfold B_X1_remember_20 at hw
  refine r_aload_n C rfl 0 rfl dX1_remember_20 ?_
  refine r_gfR (k := 1) C kX1 (by decide) (Or.inl q345) (Or.inl rfl) dX1_remember_21 hw (fun v1 hw => ?_)
  refine r_aload_n C rfl 0 rfl dX1_remember_24 ?_
  refine r_gfR (k := 0) C kX1 (by decide) (Or.inl q344) (Or.inl rfl) dX1_remember_25 hw (fun v2 hw => ?_)
  obtain ⟨y3, rfl, hw_y3⟩ := hw
  have hw := hw_y3
  obtain ⟨y4, rfl, hw_y4⟩ := hw
  have hw := hw_y4
  obtain ⟨hq5, hw⟩ := hw
  refine r_callV (ci := 11) (rest := []) (As := [.ref y4]) C sg_J9_addLast rfl rfl q1739 q1740 q1741 q89 q1742 rfl (Nat.le_of_ble_eq_true rfl) dX1_remember_28 rfl hq5 b1 b2 (cj_J9_addLast G l y3 y4 h _ hw) (k_V (fun h7 hw => ?_))
  refine r_aload_n C rfl 0 rfl dX1_remember_31 (r_aload_n C rfl 0 rfl dX1_remember_32 ?_)
  refine r_gfR (k := 0) C kX1 (by decide) (Or.inl q344) (Or.inl rfl) dX1_remember_33 hw (fun v8 hw => ?_)
  obtain ⟨y9, rfl, hw_y9⟩ := hw
  have hw := hw_y9
  obtain ⟨hq10, hw⟩ := hw
  obtain ⟨k13, k14, hp15, hp16, hw⟩ := hw
  refine r_callV (ci := 1) (rest := [.ref x0]) (As := []) C sg_X2_copy rfl rfl q1761 q1762 q1763 q78 q1764 rfl (Nat.le_of_ble_eq_true rfl) dX1_remember_36 rfl hq10 hp15 hp16 (c_X2_copy G l k13 k14 y9 h7 _ hw) (k_R (fun r11 h12 hw => ?_))
  refine r_pf (k := 0) (v := va_rf r11) C kX1 (by decide) (Or.inl q344) (Or.inl rfl) (Or.inl rfl) (n_rfO _ _) (f_rfO _ _) dX1_remember_39 hw (fun h17 hw => ?_)
  exact r_return C dX1_remember_42 hp15 hp16 ⟨rfl, hw⟩
theorem sg_X1_remember : ySg yX1_remember 0 = true := by decide +kernel
theorem c_X1_remember (G : gT) (l : Launch) (mc ms : Nat) (a0 : Nat) (h : Hp) (Q : Hp → Prop) (hw : w_X1_remember mc ms a0 h Q) : Ct G l yX1_remember (ws_ yX1_remember cX1_remember 1 (none)) 9 238 mc ms [.ref a0] h (pV Q) := by
  refine Ct.of (own := RX1) false (by decide +kernel) rfl (show (_ : Nat) ≤ _ from Nat.le_of_ble_eq_true rfl) (fun z => by cases z) (fun V C => ?_)
  show V h 0 0 0 [(0, .ref a0)] []
  unfold w_X1_remember at hw
  refine r_aload_n C rfl 0 rfl dX1_remember_0 ?_
  refine r_gfR (k := 1) C kX1 (by decide) (Or.inl q345) (Or.inl rfl) dX1_remember_1 hw (fun v18 hw => ?_)
  obtain ⟨y19, rfl, hw_y19⟩ := hw
  have hw := hw_y19
  obtain ⟨hq20, hw⟩ := hw
  refine r_callV (ci := 11) (rest := []) (As := []) C sg_J9_size rfl rfl q1728 q442 q2652 q89 q443 rfl (Nat.le_of_ble_eq_true rfl) dX1_remember_4 rfl hq20 (Nat.zero_le _) (Nat.zero_le _) (cj_J9_size G l y19 h _ hw) (k_I (fun r21 h22 hw => ?_))
  refine r_bipush (v := (14 : Int32)) C (by decide) dX1_remember_7 ?_
  refine r_icmp_ne (tgt := 20) C (by decide) dX1_remember_9 (fun hc23 => ?_) (fun hc23 => ?_)
  · have hw := hw.1 hc23
    exact r_sub C [0] rfl (b_X1_remember_20 C _ _ _ _ (Nat.zero_le _) (Nat.zero_le _) hw)
  · have hw := hw.2 hc23
    refine r_aload_n C rfl 0 rfl dX1_remember_12 ?_
    refine r_gfR (k := 1) C kX1 (by decide) (Or.inl q345) (Or.inl rfl) dX1_remember_13 hw (fun v24 hw => ?_)
    obtain ⟨y25, rfl, hw_y25⟩ := hw
    have hw := hw_y25
    obtain ⟨hq26, hw⟩ := hw
    refine r_callV (ci := 11) (rest := []) (As := []) C sg_J9_pollFirst rfl rfl q1729 q1730 q1731 q89 q1732 rfl (Nat.le_of_ble_eq_true rfl) dX1_remember_16 rfl hq26 (Nat.zero_le _) (Nat.zero_le _) (cj_J9_pollFirst G l y25 h22 _ hw) (k_R (fun r27 h28 hw => ?_))
    refine r_pop C (va_rf_cat _) dX1_remember_19 ?_
    exact r_sub C [0] rfl (b_X1_remember_20 C _ _ _ _ (Nat.zero_le _) (Nat.zero_le _) hw)
def B_X1_reign_24 (mc ms : Nat) (X : String → Hp → Prop) (Q : Int32 → Hp → Prop) (h : Hp) (c : Nat) (n : Nat) (x0 : Nat) (x1 : Int32) (x2 : Int32) (s0 : Bool) : Prop :=
  ∃ k3 k4 : Nat, c + k3 ≤ mc ∧ n + k4 ≤ ms ∧ (w_X1_check k3 k4 s0 h X (fun h2 => gfR h2 x0 0 0 (fun v7 => nn v7 (fun y8 => hasC h2 y8 1 ∧ (w_X2_canReign y8 x1 h2 (fun r10 h11 => ∃ k14 k15 : Nat, (c + k3) + k14 ≤ mc ∧ (n + k4) + k15 ≤ ms ∧ (w_X1_free k14 k15 r10 h11 X (fun h13 => hasC h13 x0 0 ∧ (∃ k21 k22 : Nat, ((c + k3) + k14) + k21 ≤ mc ∧ ((n + k4) + k15) + k22 ≤ ms ∧ (w_X1_remember k21 k22 x0 h13 (fun h20 => gfR h20 x0 0 0 (fun v25 => nn v25 (fun y26 => hasC h20 y26 1 ∧ (∃ k30 k31 : Nat, (((c + k3) + k14) + k21) + k30 ≤ mc ∧ (((n + k4) + k15) + k22) + k31 ≤ ms ∧ (w_X2_reign k30 k31 y26 x1 x2 h20 (fun r28 h29 => Q r28 h29))))))))))))))))
def w_X1_reign (mc ms : Nat) (a0 : Nat) (i1 : Int32) (i2 : Int32) (h : Hp) (X : String → Hp → Prop) (Q : Int32 → Hp → Prop) : Prop :=
  w_X1_isYear i1 h (fun r34 h35 => (r34 = false → B_X1_reign_24 mc ms X Q h35 0 0 a0 i1 i2 false) ∧ (r34 = true → w_X1_isIn i2.toInt64 (1 : Int64) (255 : Int64) h35 (fun r37 h38 => B_X1_reign_24 mc ms X Q h38 0 0 a0 i1 i2 (if r37 = false then false else true))))
theorem b_X1_reign_24 {G : gT} {l : Launch} {V : Hp → Nat → Nat → Nat → List (Nat × Value) → List Value → Prop} {mc ms : Nat} {X : String → Hp → Prop} {Q : Int32 → Hp → Prop} (C : Cx G l V cX1_reign 3 RX1 10 258 mc ms (pI Q) (some X) (some .int) [] false) (h : Hp) (c : Nat) (n : Nat) (x0 : Nat) (x1 : Int32) (x2 : Int32) (s0 : Bool) (b1 : c ≤ mc) (b2 : n ≤ ms) (hw : B_X1_reign_24 mc ms X Q h c n x0 x1 x2 s0) : V h c n 24 [(0, .ref x0), (1, .int x1), (2, .int x2)] [.int (bI s0)] := by
  unfold B_X1_reign_24 at hw
  obtain ⟨k3, k4, hp5, hp6, hw⟩ := hw
  refine r_callSX (rest := []) (As := [.int (bI s0)]) C sg_X1_check q1332 q1333 q77 q1334 rfl (Nat.le_of_ble_eq_true rfl) dX1_reign_24 rfl hp5 hp6 (c_X1_check G l k3 k4 s0 h X _ (st_C C) hw) (k_V (fun h2 hw => ?_))
  refine r_aload_n C rfl 0 rfl dX1_reign_27 ?_
  refine r_gfR (k := 0) C kX1 (by decide) (Or.inl q344) (Or.inl rfl) dX1_reign_28 hw (fun v7 hw => ?_)
  refine r_iload_n C rfl 1 rfl dX1_reign_31 ?_
  obtain ⟨y8, rfl, hw_y8⟩ := hw
  have hw := hw_y8
  obtain ⟨hq9, hw⟩ := hw
  refine r_callV (ci := 1) (rest := []) (As := [.int x1]) C sg_X2_canReign rfl rfl q406 q407 q408 q78 q409 rfl (Nat.le_of_ble_eq_true rfl) dX1_reign_32 rfl hq9 hp5 hp6 (c_X2_canReign G l y8 x1 h2 _ hw) (k_Z (fun r10 h11 hw => ?_))
  obtain ⟨k14, k15, hp16, hp17, hw⟩ := hw
  refine r_callSX (rest := []) (As := [.int (bI r10)]) C sg_X1_free q1340 q1341 q77 q1342 rfl (Nat.le_of_ble_eq_true rfl) dX1_reign_35 rfl hp16 hp17 (c_X1_free G l k14 k15 r10 h11 X _ (st_C C) hw) (k_V (fun h13 hw => ?_))
  refine r_aload_n C rfl 0 rfl dX1_reign_38 ?_
  obtain ⟨hq18, hw⟩ := hw
  obtain ⟨k21, k22, hp23, hp24, hw⟩ := hw
  refine r_callV (ci := 0) (rest := []) (As := []) C sg_X1_remember rfl rfl q1724 q1726 qs33 q77 q1727 rfl (Nat.le_of_ble_eq_true rfl) dX1_reign_39 rfl hq18 hp23 hp24 (c_X1_remember G l k21 k22 x0 h13 _ hw) (k_V (fun h20 hw => ?_))
  refine r_aload_n C rfl 0 rfl dX1_reign_42 ?_
  refine r_gfR (k := 0) C kX1 (by decide) (Or.inl q344) (Or.inl rfl) dX1_reign_43 hw (fun v25 hw => ?_)
  refine r_iload_n C rfl 1 rfl dX1_reign_46 (r_iload_n C rfl 2 rfl dX1_reign_47 ?_)
  obtain ⟨y26, rfl, hw_y26⟩ := hw
  have hw := hw_y26
  obtain ⟨hq27, hw⟩ := hw
  obtain ⟨k30, k31, hp32, hp33, hw⟩ := hw
  refine r_callV (ci := 1) (rest := []) (As := [.int x1, .int x2]) C sg_X2_reign rfl rfl q804 q805 q806 q78 q807 rfl (Nat.le_of_ble_eq_true rfl) dX1_reign_48 rfl hq27 hp32 hp33 (c_X2_reign G l k30 k31 y26 x1 x2 h20 _ hw) (k_I (fun r28 h29 hw => ?_))
  exact r_ireturn C dX1_reign_51 hp32 hp33 ⟨_, rfl, hw⟩
theorem sg_X1_reign : ySg yX1_reign 2 = true := by decide +kernel
theorem c_X1_reign (G : gT) (l : Launch) (mc ms : Nat) (a0 : Nat) (i1 : Int32) (i2 : Int32) (h : Hp) (X : String → Hp → Prop) (Q : Int32 → Hp → Prop) (hst : l.stackTraces = false) (hw : w_X1_reign mc ms a0 i1 i2 h X Q) : CtX G l yX1_reign (ws_ yX1_reign cX1_reign 3 (some .int)) 10 258 mc ms [.ref a0, .int i1, .int i2] h (pI Q) X := by
  refine CtX.of (own := RX1) hst (by decide +kernel) rfl (show (_ : Nat) ≤ _ from Nat.le_of_ble_eq_true rfl) (fun V C => ?_)
  show V h 0 0 0 [(0, .ref a0), (1, .int i1), (2, .int i2)] []
  unfold w_X1_reign at hw
  refine r_iload_n C rfl 1 rfl dX1_reign_0 ?_
  refine r_callS (rest := []) (As := [.int i1]) C sg_X1_isYear q836 q837 q77 q838 rfl (Nat.le_of_ble_eq_true rfl) dX1_reign_1 rfl (Nat.zero_le _) (Nat.zero_le _) (c_X1_isYear G l i1 h _ hw) (k_Z (fun r34 h35 hw => ?_))
  refine r_if_eq_b (tgt := 23) C (by decide) dX1_reign_4 (fun hc36 => ?_) (fun hc36 => ?_)
  · have hw := hw.1 hc36
    refine r_iconst (v := (0 : Int32)) C (by decide) dX1_reign_23 ?_
    exact r_sub C [0, 1, 2] rfl (b_X1_reign_24 C _ _ _ _ _ _ _ (Nat.zero_le _) (Nat.zero_le _) hw)
  · have hw := hw.2 hc36
    refine r_iload_n C rfl 2 rfl dX1_reign_7 (r_i2l C dX1_reign_8 (r_lconst (v := (1 : Int64)) C (by decide) dX1_reign_9 (r_ldc2 (v := (255 : Int64)) C q1331 dX1_reign_10 ?_)))
    refine r_callS (rest := []) (As := [.long i2.toInt64, .long (1 : Int64), .long (255 : Int64)]) C sg_X1_isIn q399 q400 q77 q401 rfl (Nat.le_of_ble_eq_true rfl) dX1_reign_13 rfl (Nat.zero_le _) (Nat.zero_le _) (c_X1_isIn G l i2.toInt64 (1 : Int64) (255 : Int64) h35 _ hw) (k_Z (fun r37 h38 hw => ?_))
    have hJ : V h38 0 0 24 [(0, .ref a0), (1, .int i1), (2, .int i2)] [.int (bI (if r37 = false then false else true))] := by
      exact r_sub C [0, 1, 2] rfl (b_X1_reign_24 C _ _ _ _ _ _ _ (Nat.zero_le _) (Nat.zero_le _) hw)
    refine r_if_eq_b (tgt := 23) C (by decide) dX1_reign_16 (fun hc39 => ?_) (fun hc39 => ?_)
    · have hJ40 := hJ
      try simp only [if_pos hc39] at hJ40
      refine r_iconst (v := (0 : Int32)) C (by decide) dX1_reign_23 ?_
      exact r_sub C [0, 1, 2] rfl hJ40
    · have hJ40 := hJ
      try simp only [if_neg (show ¬ r37 = false from by rw [hc39]; decide)] at hJ40
      refine r_iconst (v := (1 : Int32)) C (by decide) dX1_reign_19 (r_goto (tgt := 24) C (by decide) dX1_reign_20 ?_)
      exact r_sub C [0, 1, 2] rfl hJ40
def w_X1_die (mc ms : Nat) (a0 : Nat) (i1 : Int32) (i2 : Int32) (i3 : Int32) (h : Hp) (X : String → Hp → Prop) (Q : Int32 → Hp → Prop) : Prop :=
  w_X1_isDie i1 i2 i3 h (fun r1 h2 => ∃ k5 k6 : Nat, 0 + k5 ≤ mc ∧ 0 + k6 ≤ ms ∧ (w_X1_check k5 k6 r1 h2 X (fun h4 => gfR h4 a0 0 0 (fun v9 => nn v9 (fun y10 => gfR h4 y10 1 1 (fun v11 => nn v11 (fun y12 => hasC h4 y12 8 ∧ (wj_J2_size y12 h4 (fun r14 h15 => ∃ k18 k19 : Nat, (0 + k5) + k18 ≤ mc ∧ (0 + k6) + k19 ≤ ms ∧ (w_X1_free k18 k19 (if (10 : Int32) ≤ r14 then false else true) h15 X (fun h17 => hasC h17 a0 0 ∧ (∃ k25 k26 : Nat, ((0 + k5) + k18) + k25 ≤ mc ∧ ((0 + k6) + k19) + k26 ≤ ms ∧ (w_X1_remember k25 k26 a0 h17 (fun h24 => gfR h24 a0 0 0 (fun v29 => nn v29 (fun y30 => hasC h24 y30 1 ∧ (∃ k34 k35 : Nat, (((0 + k5) + k18) + k25) + k34 ≤ mc ∧ (((0 + k6) + k19) + k26) + k35 ≤ ms ∧ (w_X2_die k34 k35 y30 i1 i2 i3 h24 (fun r32 h33 => Q r32 h33)))))))))))))))))))
theorem sg_X1_die : ySg yX1_die 3 = true := by decide +kernel
theorem c_X1_die (G : gT) (l : Launch) (mc ms : Nat) (a0 : Nat) (i1 : Int32) (i2 : Int32) (i3 : Int32) (h : Hp) (X : String → Hp → Prop) (Q : Int32 → Hp → Prop) (hst : l.stackTraces = false) (hw : w_X1_die mc ms a0 i1 i2 i3 h X Q) : CtX G l yX1_die (ws_ yX1_die cX1_die 4 (some .int)) 10 258 mc ms [.ref a0, .int i1, .int i2, .int i3] h (pI Q) X := by
  refine CtX.of (own := RX1) hst (by decide +kernel) rfl (show (_ : Nat) ≤ _ from Nat.le_of_ble_eq_true rfl) (fun V C => ?_)
  show V h 0 0 0 [(0, .ref a0), (1, .int i1), (2, .int i2), (3, .int i3)] []
  unfold w_X1_die at hw
  refine r_iload_n C rfl 1 rfl dX1_die_0 (r_iload_n C rfl 2 rfl dX1_die_1 (r_iload_n C rfl 3 rfl dX1_die_2 ?_))
  refine r_callS (rest := []) (As := [.int i1, .int i2, .int i3]) C sg_X1_isDie q832 q833 q77 q834 rfl (Nat.le_of_ble_eq_true rfl) dX1_die_3 rfl (Nat.zero_le _) (Nat.zero_le _) (c_X1_isDie G l i1 i2 i3 h _ hw) (k_Z (fun r1 h2 hw => ?_))
  obtain ⟨k5, k6, hp7, hp8, hw⟩ := hw
  refine r_callSX (rest := []) (As := [.int (bI r1)]) C sg_X1_check q1332 q1333 q77 q1334 rfl (Nat.le_of_ble_eq_true rfl) dX1_die_6 rfl hp7 hp8 (c_X1_check G l k5 k6 r1 h2 X _ (st_C C) hw) (k_V (fun h4 hw => ?_))
  refine r_aload_n C rfl 0 rfl dX1_die_9 ?_
  refine r_gfR (k := 0) C kX1 (by decide) (Or.inl q344) (Or.inl rfl) dX1_die_10 hw (fun v9 hw => ?_)
  obtain ⟨y10, rfl, hw_y10⟩ := hw
  have hw := hw_y10
  refine r_gfR (k := 1) C kX2 (by decide) (Or.inr ⟨_, (List.mem_of_getElem? (i := 4) rfl)⟩) (Or.inl rfl) dX1_die_13 hw (fun v11 hw => ?_)
  obtain ⟨y12, rfl, hw_y12⟩ := hw
  have hw := hw_y12
  obtain ⟨hq13, hw⟩ := hw
  refine r_callF (ci := 8) (rest := []) (As := []) C (x := ⟨"java/util/List", "size", "()I"⟩) (show ySg ⟨"java/util/List", "size", "()I"⟩ 0 = true by decide +kernel) rfl q842 q414 q416 q81 q418 (List.mem_of_getElem? (i := 2) rfl) rfl (Nat.le_of_ble_eq_true rfl) dX1_die_16 rfl hq13 hp7 hp8 (cj_J2_size G l y12 h4 _ hw) (k_I (fun r14 h15 hw => ?_))
  refine r_bipush (v := (10 : Int32)) C (by decide) dX1_die_21 ?_
  have hJ : V h15 (0 + k5) (0 + k6) 31 [(0, .ref a0), (1, .int i1), (2, .int i2), (3, .int i3)] [.int (bI (if (10 : Int32) ≤ r14 then false else true))] := by
    obtain ⟨k18, k19, hp20, hp21, hw⟩ := hw
    refine r_callSX (rest := []) (As := [.int (bI (if (10 : Int32) ≤ r14 then false else true))]) C sg_X1_free q1340 q1341 q77 q1342 rfl (Nat.le_of_ble_eq_true rfl) dX1_die_31 rfl hp20 hp21 (c_X1_free G l k18 k19 (if (10 : Int32) ≤ r14 then false else true) h15 X _ (st_C C) hw) (k_V (fun h17 hw => ?_))
    refine r_aload_n C rfl 0 rfl dX1_die_34 ?_
    obtain ⟨hq22, hw⟩ := hw
    obtain ⟨k25, k26, hp27, hp28, hw⟩ := hw
    refine r_callV (ci := 0) (rest := []) (As := []) C sg_X1_remember rfl rfl q1724 q1726 qs33 q77 q1727 rfl (Nat.le_of_ble_eq_true rfl) dX1_die_35 rfl hq22 hp27 hp28 (c_X1_remember G l k25 k26 a0 h17 _ hw) (k_V (fun h24 hw => ?_))
    refine r_aload_n C rfl 0 rfl dX1_die_38 ?_
    refine r_gfR (k := 0) C kX1 (by decide) (Or.inl q344) (Or.inl rfl) dX1_die_39 hw (fun v29 hw => ?_)
    refine r_iload_n C rfl 1 rfl dX1_die_42 (r_iload_n C rfl 2 rfl dX1_die_43 (r_iload_n C rfl 3 rfl dX1_die_44 ?_))
    obtain ⟨y30, rfl, hw_y30⟩ := hw
    have hw := hw_y30
    obtain ⟨hq31, hw⟩ := hw
    obtain ⟨k34, k35, hp36, hp37, hw⟩ := hw
    refine r_callV (ci := 1) (rest := []) (As := [.int i1, .int i2, .int i3]) C sg_X2_die rfl rfl q843 q844 q845 q78 q846 rfl (Nat.le_of_ble_eq_true rfl) dX1_die_45 rfl hq31 hp36 hp37 (c_X2_die G l k34 k35 y30 i1 i2 i3 h24 _ hw) (k_I (fun r32 h33 hw => ?_))
    exact r_ireturn C dX1_die_48 hp36 hp37 ⟨_, rfl, hw⟩
  refine r_icmp_ge (tgt := 30) C (by decide) dX1_die_23 (fun hc38 => ?_) (fun hc38 => ?_)
  · have hJ39 := hJ
    try simp only [if_pos hc38] at hJ39
    refine r_iconst (v := (0 : Int32)) C (by decide) dX1_die_30 ?_
    exact r_sub C [0, 1, 2, 3] rfl hJ39
  · have hJ39 := hJ
    try simp only [if_neg hc38] at hJ39
    refine r_iconst (v := (1 : Int32)) C (by decide) dX1_die_26 (r_goto (tgt := 31) C (by decide) dX1_die_27 ?_)
    exact r_sub C [0, 1, 2, 3] rfl hJ39
def w_X1_crack (mc ms : Nat) (a0 : Nat) (i1 : Int32) (i2 : Int32) (h : Hp) (X : String → Hp → Prop) (Q : Int32 → Hp → Prop) : Prop :=
  gfR h a0 0 0 (fun v1 => nn v1 (fun y2 => hasC h y2 1 ∧ (w_X2_hasDie y2 i1 h (fun r4 h5 => ∃ k8 k9 : Nat, 0 + k8 ≤ mc ∧ 0 + k9 ≤ ms ∧ (w_X1_exists k8 k9 r4 h5 X (fun h7 => w_X1_isYear i2 h7 (fun r12 h13 => ∃ k16 k17 : Nat, (0 + k8) + k16 ≤ mc ∧ (0 + k9) + k17 ≤ ms ∧ (w_X1_check k16 k17 r12 h13 X (fun h15 => gfR h15 a0 0 0 (fun v20 => nn v20 (fun y21 => gfR h15 y21 1 1 (fun v22 => nn v22 (fun y23 => hasC h15 y23 8 ∧ (wj_J2_get y23 i1 h15 (fun r25 h26 => (∀ z27 : Nat, r25 = some z27 → hasC h26 z27 4) ∧ (nn r25 (fun y29 => hasC h26 y29 4 ∧ (∃ k33 k34 : Nat, ((0 + k8) + k16) + k33 ≤ mc ∧ ((0 + k9) + k17) + k34 ≤ ms ∧ (w_X5_canCrack k33 k34 y29 i2 h26 (fun r31 h32 => ∃ k39 k40 : Nat, (((0 + k8) + k16) + k33) + k39 ≤ mc ∧ (((0 + k9) + k17) + k34) + k40 ≤ ms ∧ (w_X1_free k39 k40 r31 h32 X (fun h38 => hasC h38 a0 0 ∧ (∃ k46 k47 : Nat, ((((0 + k8) + k16) + k33) + k39) + k46 ≤ mc ∧ ((((0 + k9) + k17) + k34) + k40) + k47 ≤ ms ∧ (w_X1_remember k46 k47 a0 h38 (fun h45 => gfR h45 a0 0 0 (fun v50 => nn v50 (fun y51 => hasC h45 y51 1 ∧ (∃ k55 k56 : Nat, (((((0 + k8) + k16) + k33) + k39) + k46) + k55 ≤ mc ∧ (((((0 + k9) + k17) + k34) + k40) + k47) + k56 ≤ ms ∧ (w_X2_crack k55 k56 y51 i1 i2 h45 (fun r53 h54 => Q r53 h54))))))))))))))))))))))))))))))
theorem sg_X1_crack : ySg yX1_crack 2 = true := by decide +kernel
theorem c_X1_crack (G : gT) (l : Launch) (mc ms : Nat) (a0 : Nat) (i1 : Int32) (i2 : Int32) (h : Hp) (X : String → Hp → Prop) (Q : Int32 → Hp → Prop) (hst : l.stackTraces = false) (hw : w_X1_crack mc ms a0 i1 i2 h X Q) : CtX G l yX1_crack (ws_ yX1_crack cX1_crack 3 (some .int)) 10 258 mc ms [.ref a0, .int i1, .int i2] h (pI Q) X := by
  refine CtX.of (own := RX1) hst (by decide +kernel) rfl (show (_ : Nat) ≤ _ from Nat.le_of_ble_eq_true rfl) (fun V C => ?_)
  show V h 0 0 0 [(0, .ref a0), (1, .int i1), (2, .int i2)] []
  unfold w_X1_crack at hw
  refine r_aload_n C rfl 0 rfl dX1_crack_0 ?_
  refine r_gfR (k := 0) C kX1 (by decide) (Or.inl q344) (Or.inl rfl) dX1_crack_1 hw (fun v1 hw => ?_)
  refine r_iload_n C rfl 1 rfl dX1_crack_4 ?_
  obtain ⟨y2, rfl, hw_y2⟩ := hw
  have hw := hw_y2
  obtain ⟨hq3, hw⟩ := hw
  refine r_callV (ci := 1) (rest := []) (As := [.int i1]) C sg_X2_hasDie rfl rfl q881 q882 q883 q78 q884 rfl (Nat.le_of_ble_eq_true rfl) dX1_crack_5 rfl hq3 (Nat.zero_le _) (Nat.zero_le _) (c_X2_hasDie G l y2 i1 h _ hw) (k_Z (fun r4 h5 hw => ?_))
  obtain ⟨k8, k9, hp10, hp11, hw⟩ := hw
  refine r_callSX (rest := []) (As := [.int (bI r4)]) C sg_X1_exists q1599 q1600 q77 q1601 rfl (Nat.le_of_ble_eq_true rfl) dX1_crack_8 rfl hp10 hp11 (c_X1_exists G l k8 k9 r4 h5 X _ (st_C C) hw) (k_V (fun h7 hw => ?_))
  refine r_iload_n C rfl 2 rfl dX1_crack_11 ?_
  refine r_callS (rest := []) (As := [.int i2]) C sg_X1_isYear q836 q837 q77 q838 rfl (Nat.le_of_ble_eq_true rfl) dX1_crack_12 rfl hp10 hp11 (c_X1_isYear G l i2 h7 _ hw) (k_Z (fun r12 h13 hw => ?_))
  obtain ⟨k16, k17, hp18, hp19, hw⟩ := hw
  refine r_callSX (rest := []) (As := [.int (bI r12)]) C sg_X1_check q1332 q1333 q77 q1334 rfl (Nat.le_of_ble_eq_true rfl) dX1_crack_15 rfl hp18 hp19 (c_X1_check G l k16 k17 r12 h13 X _ (st_C C) hw) (k_V (fun h15 hw => ?_))
  refine r_aload_n C rfl 0 rfl dX1_crack_18 ?_
  refine r_gfR (k := 0) C kX1 (by decide) (Or.inl q344) (Or.inl rfl) dX1_crack_19 hw (fun v20 hw => ?_)
  obtain ⟨y21, rfl, hw_y21⟩ := hw
  have hw := hw_y21
  refine r_gfR (k := 1) C kX2 (by decide) (Or.inr ⟨_, (List.mem_of_getElem? (i := 4) rfl)⟩) (Or.inl rfl) dX1_crack_22 hw (fun v22 hw => ?_)
  refine r_iload_n C rfl 1 rfl dX1_crack_25 ?_
  obtain ⟨y23, rfl, hw_y23⟩ := hw
  have hw := hw_y23
  obtain ⟨hq24, hw⟩ := hw
  refine r_callF (ci := 8) (rest := []) (As := [.int i1]) C (x := ⟨"java/util/List", "get", "(I)Ljava/lang/Object;"⟩) (show ySg ⟨"java/util/List", "get", "(I)Ljava/lang/Object;"⟩ 1 = true by decide +kernel) rfl q887 q453 q455 q81 q457 (List.mem_of_getElem? (i := 6) rfl) rfl (Nat.le_of_ble_eq_true rfl) dX1_crack_26 rfl hq24 hp18 hp19 (cj_J2_get G l y23 i1 h15 _ hw) (k_R (fun r25 h26 hw => ?_))
  obtain ⟨e28, hw⟩ := hw
  refine r_cast (x := r25) C (ci := 4) rfl q888 dX1_crack_31 e28 ?_
  refine r_iload_n C rfl 2 rfl dX1_crack_34 ?_
  obtain ⟨y29, rfl, hw_y29⟩ := hw
  have hw := hw_y29
  obtain ⟨hq30, hw⟩ := hw
  obtain ⟨k33, k34, hp35, hp36, hw⟩ := hw
  refine r_callV (ci := 4) (rest := []) (As := [.int i2]) C sg_X5_canCrack rfl rfl q889 q890 q891 q107 q892 rfl (Nat.le_of_ble_eq_true rfl) dX1_crack_35 rfl hq30 hp35 hp36 (c_X5_canCrack G l k33 k34 y29 i2 h26 _ hw) (k_Z (fun r31 h32 hw => ?_))
  obtain ⟨k39, k40, hp41, hp42, hw⟩ := hw
  refine r_callSX (rest := []) (As := [.int (bI r31)]) C sg_X1_free q1340 q1341 q77 q1342 rfl (Nat.le_of_ble_eq_true rfl) dX1_crack_38 rfl hp41 hp42 (c_X1_free G l k39 k40 r31 h32 X _ (st_C C) hw) (k_V (fun h38 hw => ?_))
  refine r_aload_n C rfl 0 rfl dX1_crack_41 ?_
  obtain ⟨hq43, hw⟩ := hw
  obtain ⟨k46, k47, hp48, hp49, hw⟩ := hw
  refine r_callV (ci := 0) (rest := []) (As := []) C sg_X1_remember rfl rfl q1724 q1726 qs33 q77 q1727 rfl (Nat.le_of_ble_eq_true rfl) dX1_crack_42 rfl hq43 hp48 hp49 (c_X1_remember G l k46 k47 a0 h38 _ hw) (k_V (fun h45 hw => ?_))
  refine r_aload_n C rfl 0 rfl dX1_crack_45 ?_
  refine r_gfR (k := 0) C kX1 (by decide) (Or.inl q344) (Or.inl rfl) dX1_crack_46 hw (fun v50 hw => ?_)
  refine r_iload_n C rfl 1 rfl dX1_crack_49 (r_iload_n C rfl 2 rfl dX1_crack_50 ?_)
  obtain ⟨y51, rfl, hw_y51⟩ := hw
  have hw := hw_y51
  obtain ⟨hq52, hw⟩ := hw
  obtain ⟨k55, k56, hp57, hp58, hw⟩ := hw
  refine r_callV (ci := 1) (rest := []) (As := [.int i1, .int i2]) C sg_X2_crack rfl rfl q974 q975 q976 q78 q977 rfl (Nat.le_of_ble_eq_true rfl) dX1_crack_51 rfl hq52 hp57 hp58 (c_X2_crack G l k55 k56 y51 i1 i2 h45 _ hw) (k_I (fun r53 h54 hw => ?_))
  exact r_ireturn C dX1_crack_54 hp57 hp58 ⟨_, rfl, hw⟩
def w_X1_isSeal (i0 : Int32) (i1 : Int32) (i2 : Int32) (h : Hp) (Q : Bool → Hp → Prop) : Prop :=
  w_X1_isIn i0.toInt64 (0 : Int64) (1 : Int64) h (fun r1 h2 => (r1 = false → Q false h2) ∧ (r1 = true → w_X1_isIn i1.toInt64 (-1 : Int64) (7 : Int64) h2 (fun r4 h5 => (r4 = false → Q false h5) ∧ (r4 = true → w_X1_isIn i2.toInt64 (0 : Int64) (99 : Int64) h5 (fun r7 h8 => Q (if r7 = false then false else true) h8)))))
theorem sg_X1_isSeal : ySg yX1_isSeal 3 = true := by decide +kernel
theorem c_X1_isSeal (G : gT) (l : Launch) (i0 : Int32) (i1 : Int32) (i2 : Int32) (h : Hp) (Q : Bool → Hp → Prop) (hw : w_X1_isSeal i0 i1 i2 h Q) : Ct G l yX1_isSeal (ws_ yX1_isSeal cX1_isSeal 3 (some .boolean)) 2 37 0 0 [.int i0, .int i1, .int i2] h (pZ Q) := by
  refine Ct.of (own := RX1) false (by decide +kernel) rfl (show (_ : Nat) ≤ _ from Nat.le_of_ble_eq_true rfl) (fun z => by cases z) (fun V C => ?_)
  show V h 0 0 0 [(0, .int i0), (1, .int i1), (2, .int i2)] []
  unfold w_X1_isSeal at hw
  refine r_iload_n C rfl 0 rfl dX1_isSeal_0 (r_i2l C dX1_isSeal_1 (r_lconst (v := (0 : Int64)) C (by decide) dX1_isSeal_2 (r_lconst (v := (1 : Int64)) C (by decide) dX1_isSeal_3 ?_)))
  refine r_callS (rest := []) (As := [.long i0.toInt64, .long (0 : Int64), .long (1 : Int64)]) C sg_X1_isIn q399 q400 q77 q401 rfl (Nat.le_of_ble_eq_true rfl) dX1_isSeal_4 rfl (Nat.le_refl _) (Nat.le_refl _) (c_X1_isIn G l i0.toInt64 (0 : Int64) (1 : Int64) h _ hw) (k_Z (fun r1 h2 hw => ?_))
  refine r_if_eq_b (tgt := 40) C (by decide) dX1_isSeal_7 (fun hc3 => ?_) (fun hc3 => ?_)
  · have hw := hw.1 hc3
    refine r_iconst (v := (0 : Int32)) C (by decide) dX1_isSeal_40 ?_
    exact r_zreturn (x := false) C dX1_isSeal_41 (Nat.le_refl _) (Nat.le_refl _) ⟨_, rfl, hw⟩
  · have hw := hw.2 hc3
    refine r_iload_n C rfl 1 rfl dX1_isSeal_10 (r_i2l C dX1_isSeal_11 (r_ldc2 (v := (-1 : Int64)) C q1822 dX1_isSeal_12 (r_ldc2 (v := (7 : Int64)) C q1823 dX1_isSeal_15 ?_)))
    refine r_callS (rest := []) (As := [.long i1.toInt64, .long (-1 : Int64), .long (7 : Int64)]) C sg_X1_isIn q399 q400 q77 q401 rfl (Nat.le_of_ble_eq_true rfl) dX1_isSeal_18 rfl (Nat.le_refl _) (Nat.le_refl _) (c_X1_isIn G l i1.toInt64 (-1 : Int64) (7 : Int64) h2 _ hw) (k_Z (fun r4 h5 hw => ?_))
    refine r_if_eq_b (tgt := 40) C (by decide) dX1_isSeal_21 (fun hc6 => ?_) (fun hc6 => ?_)
    · have hw := hw.1 hc6
      refine r_iconst (v := (0 : Int32)) C (by decide) dX1_isSeal_40 ?_
      exact r_zreturn (x := false) C dX1_isSeal_41 (Nat.le_refl _) (Nat.le_refl _) ⟨_, rfl, hw⟩
    · have hw := hw.2 hc6
      refine r_iload_n C rfl 2 rfl dX1_isSeal_24 (r_i2l C dX1_isSeal_25 (r_lconst (v := (0 : Int64)) C (by decide) dX1_isSeal_26 (r_ldc2 (v := (99 : Int64)) C q1824 dX1_isSeal_27 ?_)))
      refine r_callS (rest := []) (As := [.long i2.toInt64, .long (0 : Int64), .long (99 : Int64)]) C sg_X1_isIn q399 q400 q77 q401 rfl (Nat.le_of_ble_eq_true rfl) dX1_isSeal_30 rfl (Nat.le_refl _) (Nat.le_refl _) (c_X1_isIn G l i2.toInt64 (0 : Int64) (99 : Int64) h5 _ hw) (k_Z (fun r7 h8 hw => ?_))
      have hJ : V h8 0 0 41 [] [.int (bI (if r7 = false then false else true))] := by
        exact r_zreturn (x := (if r7 = false then false else true)) C dX1_isSeal_41 (Nat.le_refl _) (Nat.le_refl _) ⟨_, rfl, hw⟩
      refine r_if_eq_b (tgt := 40) C (by decide) dX1_isSeal_33 (fun hc9 => ?_) (fun hc9 => ?_)
      · have hJ10 := hJ
        try simp only [if_pos hc9] at hJ10
        refine r_iconst (v := (0 : Int32)) C (by decide) dX1_isSeal_40 ?_
        exact r_sub C [] rfl hJ10
      · have hJ10 := hJ
        try simp only [if_neg (show ¬ r7 = false from by rw [hc9]; decide)] at hJ10
        refine r_iconst (v := (1 : Int32)) C (by decide) dX1_isSeal_36 (r_goto (tgt := 41) C (by decide) dX1_isSeal_37 ?_)
        exact r_sub C [] rfl hJ10
def B_X1_seal_50 (mc ms : Nat) (X : String → Hp → Prop) (Q : Int32 → Hp → Prop) (h : Hp) (c : Nat) (n : Nat) (x0 : Nat) (x1 : Int32) (x2 : Int32) (x3 : Int32) (x4 : Int32) (x5 : Int32) (s0 : Bool) : Prop :=
  ∃ k3 k4 : Nat, c + k3 ≤ mc ∧ n + k4 ≤ ms ∧ (w_X1_check k3 k4 s0 h X (fun h2 => gfR h2 x0 0 0 (fun v7 => nn v7 (fun y8 => gfR h2 y8 1 2 (fun v9 => nn v9 (fun y10 => hasC h2 y10 8 ∧ (wj_J2_size y10 h2 (fun r12 h13 => ∃ k16 k17 : Nat, (c + k3) + k16 ≤ mc ∧ (n + k4) + k17 ≤ ms ∧ (w_X1_free k16 k17 (if (24 : Int32) ≤ r12 then false else true) h13 X (fun h15 => hasC h15 x0 0 ∧ (∃ k23 k24 : Nat, ((c + k3) + k16) + k23 ≤ mc ∧ ((n + k4) + k17) + k24 ≤ ms ∧ (w_X1_remember k23 k24 x0 h15 (fun h22 => gfR h22 x0 0 0 (fun v27 => nn v27 (fun y28 => hasC h22 y28 1 ∧ (∃ k32 k33 : Nat, (((c + k3) + k16) + k23) + k32 ≤ mc ∧ (((n + k4) + k17) + k24) + k33 ≤ ms ∧ (w_X2_seal k32 k33 y28 x1 x2 x3 x4 x5 h22 (fun r30 h31 => Q r30 h31))))))))))))))))))
def w_X1_seal (mc ms : Nat) (a0 : Nat) (i1 : Int32) (i2 : Int32) (i3 : Int32) (i4 : Int32) (i5 : Int32) (h : Hp) (X : String → Hp → Prop) (Q : Int32 → Hp → Prop) : Prop :=
  gfR h a0 0 0 (fun v38 => nn v38 (fun y39 => hasC h y39 1 ∧ (w_X2_hasDie y39 i1 h (fun r41 h42 => ∃ k45 k46 : Nat, 0 + k45 ≤ mc ∧ 0 + k46 ≤ ms ∧ (w_X1_exists k45 k46 r41 h42 X (fun h44 => w_X1_isSeal i2 i3 i4 h44 (fun r49 h50 => (r49 = false → B_X1_seal_50 mc ms X Q h50 (0 + k45) (0 + k46) a0 i1 i2 i3 i4 i5 false) ∧ (r49 = true → gfR h50 a0 0 0 (fun v52 => nn v52 (fun y53 => gfR h50 y53 1 1 (fun v54 => nn v54 (fun y55 => hasC h50 y55 8 ∧ (wj_J2_get y55 i1 h50 (fun r57 h58 => (∀ z59 : Nat, r57 = some z59 → hasC h58 z59 4) ∧ (nn r57 (fun y61 => hasC h58 y61 4 ∧ (w_X5_hasCracks y61 i5 h58 (fun r63 h64 => B_X1_seal_50 mc ms X Q h64 (0 + k45) (0 + k46) a0 i1 i2 i3 i4 i5 (if r63 = false then false else true)))))))))))))))))))
theorem b_X1_seal_50 {G : gT} {l : Launch} {V : Hp → Nat → Nat → Nat → List (Nat × Value) → List Value → Prop} {mc ms : Nat} {X : String → Hp → Prop} {Q : Int32 → Hp → Prop} (C : Cx G l V cX1_seal 6 RX1 10 258 mc ms (pI Q) (some X) (some .int) [] false) (h : Hp) (c : Nat) (n : Nat) (x0 : Nat) (x1 : Int32) (x2 : Int32) (x3 : Int32) (x4 : Int32) (x5 : Int32) (s0 : Bool) (b1 : c ≤ mc) (b2 : n ≤ ms) (hw : B_X1_seal_50 mc ms X Q h c n x0 x1 x2 x3 x4 x5 s0) : V h c n 50 [(0, .ref x0), (1, .int x1), (2, .int x2), (3, .int x3), (4, .int x4), (5, .int x5)] [.int (bI s0)] := by
  unfold B_X1_seal_50 at hw
  obtain ⟨k3, k4, hp5, hp6, hw⟩ := hw
  refine r_callSX (rest := []) (As := [.int (bI s0)]) C sg_X1_check q1332 q1333 q77 q1334 rfl (Nat.le_of_ble_eq_true rfl) dX1_seal_50 rfl hp5 hp6 (c_X1_check G l k3 k4 s0 h X _ (st_C C) hw) (k_V (fun h2 hw => ?_))
  refine r_aload_n C rfl 0 rfl dX1_seal_53 ?_
  refine r_gfR (k := 0) C kX1 (by decide) (Or.inl q344) (Or.inl rfl) dX1_seal_54 hw (fun v7 hw => ?_)
  obtain ⟨y8, rfl, hw_y8⟩ := hw
  have hw := hw_y8
  refine r_gfR (k := 2) C kX2 (by decide) (Or.inr ⟨_, (List.mem_of_getElem? (i := 5) rfl)⟩) (Or.inl rfl) dX1_seal_57 hw (fun v9 hw => ?_)
  obtain ⟨y10, rfl, hw_y10⟩ := hw
  have hw := hw_y10
  obtain ⟨hq11, hw⟩ := hw
  refine r_callF (ci := 8) (rest := []) (As := []) C (x := ⟨"java/util/List", "size", "()I"⟩) (show ySg ⟨"java/util/List", "size", "()I"⟩ 0 = true by decide +kernel) rfl q842 q414 q416 q81 q418 (List.mem_of_getElem? (i := 2) rfl) rfl (Nat.le_of_ble_eq_true rfl) dX1_seal_60 rfl hq11 hp5 hp6 (cj_J2_size G l y10 h2 _ hw) (k_I (fun r12 h13 hw => ?_))
  refine r_bipush (v := (24 : Int32)) C (by decide) dX1_seal_65 ?_
  have hJ : V h13 (c + k3) (n + k4) 75 [(0, .ref x0), (1, .int x1), (2, .int x2), (3, .int x3), (4, .int x4), (5, .int x5)] [.int (bI (if (24 : Int32) ≤ r12 then false else true))] := by
    obtain ⟨k16, k17, hp18, hp19, hw⟩ := hw
    refine r_callSX (rest := []) (As := [.int (bI (if (24 : Int32) ≤ r12 then false else true))]) C sg_X1_free q1340 q1341 q77 q1342 rfl (Nat.le_of_ble_eq_true rfl) dX1_seal_75 rfl hp18 hp19 (c_X1_free G l k16 k17 (if (24 : Int32) ≤ r12 then false else true) h13 X _ (st_C C) hw) (k_V (fun h15 hw => ?_))
    refine r_aload_n C rfl 0 rfl dX1_seal_78 ?_
    obtain ⟨hq20, hw⟩ := hw
    obtain ⟨k23, k24, hp25, hp26, hw⟩ := hw
    refine r_callV (ci := 0) (rest := []) (As := []) C sg_X1_remember rfl rfl q1724 q1726 qs33 q77 q1727 rfl (Nat.le_of_ble_eq_true rfl) dX1_seal_79 rfl hq20 hp25 hp26 (c_X1_remember G l k23 k24 x0 h15 _ hw) (k_V (fun h22 hw => ?_))
    refine r_aload_n C rfl 0 rfl dX1_seal_82 ?_
    refine r_gfR (k := 0) C kX1 (by decide) (Or.inl q344) (Or.inl rfl) dX1_seal_83 hw (fun v27 hw => ?_)
    refine r_iload_n C rfl 1 rfl dX1_seal_86 (r_iload_n C rfl 2 rfl dX1_seal_87 (r_iload_n C rfl 3 rfl dX1_seal_88 (r_iload C 4 rfl dX1_seal_89 (r_iload C 5 rfl dX1_seal_91 ?_))))
    obtain ⟨y28, rfl, hw_y28⟩ := hw
    have hw := hw_y28
    obtain ⟨hq29, hw⟩ := hw
    obtain ⟨k32, k33, hp34, hp35, hw⟩ := hw
    refine r_callV (ci := 1) (rest := []) (As := [.int x1, .int x2, .int x3, .int x4, .int x5]) C sg_X2_seal rfl rfl q988 q989 q990 q78 q991 rfl (Nat.le_of_ble_eq_true rfl) dX1_seal_93 rfl hq29 hp34 hp35 (c_X2_seal G l k32 k33 y28 x1 x2 x3 x4 x5 h22 _ hw) (k_I (fun r30 h31 hw => ?_))
    exact r_ireturn C dX1_seal_96 hp34 hp35 ⟨_, rfl, hw⟩
  refine r_icmp_ge (tgt := 74) C (by decide) dX1_seal_67 (fun hc36 => ?_) (fun hc36 => ?_)
  · have hJ37 := hJ
    try simp only [if_pos hc36] at hJ37
    refine r_iconst (v := (0 : Int32)) C (by decide) dX1_seal_74 ?_
    exact r_sub C [0, 1, 2, 3, 4, 5] rfl hJ37
  · have hJ37 := hJ
    try simp only [if_neg hc36] at hJ37
    refine r_iconst (v := (1 : Int32)) C (by decide) dX1_seal_70 (r_goto (tgt := 75) C (by decide) dX1_seal_71 ?_)
    exact r_sub C [0, 1, 2, 3, 4, 5] rfl hJ37
theorem sg_X1_seal : ySg yX1_seal 5 = true := by decide +kernel
theorem c_X1_seal (G : gT) (l : Launch) (mc ms : Nat) (a0 : Nat) (i1 : Int32) (i2 : Int32) (i3 : Int32) (i4 : Int32) (i5 : Int32) (h : Hp) (X : String → Hp → Prop) (Q : Int32 → Hp → Prop) (hst : l.stackTraces = false) (hw : w_X1_seal mc ms a0 i1 i2 i3 i4 i5 h X Q) : CtX G l yX1_seal (ws_ yX1_seal cX1_seal 6 (some .int)) 10 258 mc ms [.ref a0, .int i1, .int i2, .int i3, .int i4, .int i5] h (pI Q) X := by
  refine CtX.of (own := RX1) hst (by decide +kernel) rfl (show (_ : Nat) ≤ _ from Nat.le_of_ble_eq_true rfl) (fun V C => ?_)
  show V h 0 0 0 [(0, .ref a0), (1, .int i1), (2, .int i2), (3, .int i3), (4, .int i4), (5, .int i5)] []
  unfold w_X1_seal at hw
  refine r_aload_n C rfl 0 rfl dX1_seal_0 ?_
  refine r_gfR (k := 0) C kX1 (by decide) (Or.inl q344) (Or.inl rfl) dX1_seal_1 hw (fun v38 hw => ?_)
  refine r_iload_n C rfl 1 rfl dX1_seal_4 ?_
  obtain ⟨y39, rfl, hw_y39⟩ := hw
  have hw := hw_y39
  obtain ⟨hq40, hw⟩ := hw
  refine r_callV (ci := 1) (rest := []) (As := [.int i1]) C sg_X2_hasDie rfl rfl q881 q882 q883 q78 q884 rfl (Nat.le_of_ble_eq_true rfl) dX1_seal_5 rfl hq40 (Nat.zero_le _) (Nat.zero_le _) (c_X2_hasDie G l y39 i1 h _ hw) (k_Z (fun r41 h42 hw => ?_))
  obtain ⟨k45, k46, hp47, hp48, hw⟩ := hw
  refine r_callSX (rest := []) (As := [.int (bI r41)]) C sg_X1_exists q1599 q1600 q77 q1601 rfl (Nat.le_of_ble_eq_true rfl) dX1_seal_8 rfl hp47 hp48 (c_X1_exists G l k45 k46 r41 h42 X _ (st_C C) hw) (k_V (fun h44 hw => ?_))
  refine r_iload_n C rfl 2 rfl dX1_seal_11 (r_iload_n C rfl 3 rfl dX1_seal_12 (r_iload C 4 rfl dX1_seal_13 ?_))
  refine r_callS (rest := []) (As := [.int i2, .int i3, .int i4]) C sg_X1_isSeal q1819 q1820 q77 q1821 rfl (Nat.le_of_ble_eq_true rfl) dX1_seal_15 rfl hp47 hp48 (c_X1_isSeal G l i2 i3 i4 h44 _ hw) (k_Z (fun r49 h50 hw => ?_))
  refine r_if_eq_b (tgt := 49) C (by decide) dX1_seal_18 (fun hc51 => ?_) (fun hc51 => ?_)
  · have hw := hw.1 hc51
    refine r_iconst (v := (0 : Int32)) C (by decide) dX1_seal_49 ?_
    exact r_sub C [0, 1, 2, 3, 4, 5] rfl (b_X1_seal_50 C _ _ _ _ _ _ _ _ _ _ hp47 hp48 hw)
  · have hw := hw.2 hc51
    refine r_aload_n C rfl 0 rfl dX1_seal_21 ?_
    refine r_gfR (k := 0) C kX1 (by decide) (Or.inl q344) (Or.inl rfl) dX1_seal_22 hw (fun v52 hw => ?_)
    obtain ⟨y53, rfl, hw_y53⟩ := hw
    have hw := hw_y53
    refine r_gfR (k := 1) C kX2 (by decide) (Or.inr ⟨_, (List.mem_of_getElem? (i := 4) rfl)⟩) (Or.inl rfl) dX1_seal_25 hw (fun v54 hw => ?_)
    refine r_iload_n C rfl 1 rfl dX1_seal_28 ?_
    obtain ⟨y55, rfl, hw_y55⟩ := hw
    have hw := hw_y55
    obtain ⟨hq56, hw⟩ := hw
    refine r_callF (ci := 8) (rest := []) (As := [.int i1]) C (x := ⟨"java/util/List", "get", "(I)Ljava/lang/Object;"⟩) (show ySg ⟨"java/util/List", "get", "(I)Ljava/lang/Object;"⟩ 1 = true by decide +kernel) rfl q887 q453 q455 q81 q457 (List.mem_of_getElem? (i := 6) rfl) rfl (Nat.le_of_ble_eq_true rfl) dX1_seal_29 rfl hq56 hp47 hp48 (cj_J2_get G l y55 i1 h50 _ hw) (k_R (fun r57 h58 hw => ?_))
    obtain ⟨e60, hw⟩ := hw
    refine r_cast (x := r57) C (ci := 4) rfl q888 dX1_seal_34 e60 ?_
    refine r_iload C 5 rfl dX1_seal_37 ?_
    obtain ⟨y61, rfl, hw_y61⟩ := hw
    have hw := hw_y61
    obtain ⟨hq62, hw⟩ := hw
    refine r_callV (ci := 4) (rest := []) (As := [.int i5]) C sg_X5_hasCracks rfl rfl q983 q984 q985 q107 q986 rfl (Nat.le_of_ble_eq_true rfl) dX1_seal_39 rfl hq62 hp47 hp48 (c_X5_hasCracks G l y61 i5 h58 _ hw) (k_Z (fun r63 h64 hw => ?_))
    have hJ : V h64 (0 + k45) (0 + k46) 50 [(0, .ref a0), (1, .int i1), (2, .int i2), (3, .int i3), (4, .int i4), (5, .int i5)] [.int (bI (if r63 = false then false else true))] := by
      exact r_sub C [0, 1, 2, 3, 4, 5] rfl (b_X1_seal_50 C _ _ _ _ _ _ _ _ _ _ hp47 hp48 hw)
    refine r_if_eq_b (tgt := 49) C (by decide) dX1_seal_42 (fun hc65 => ?_) (fun hc65 => ?_)
    · have hJ66 := hJ
      try simp only [if_pos hc65] at hJ66
      refine r_iconst (v := (0 : Int32)) C (by decide) dX1_seal_49 ?_
      exact r_sub C [0, 1, 2, 3, 4, 5] rfl hJ66
    · have hJ66 := hJ
      try simp only [if_neg (show ¬ r63 = false from by rw [hc65]; decide)] at hJ66
      refine r_iconst (v := (1 : Int32)) C (by decide) dX1_seal_45 (r_goto (tgt := 50) C (by decide) dX1_seal_46 ?_)
      exact r_sub C [0, 1, 2, 3, 4, 5] rfl hJ66
def w_X1_show (mc ms : Nat) (a0 : Nat) (i1 : Int32) (i2 : Int32) (h : Hp) (X : String → Hp → Prop) (Q : Int32 → Hp → Prop) : Prop :=
  gfR h a0 0 0 (fun v1 => nn v1 (fun y2 => hasC h y2 1 ∧ (w_X2_hasSeal y2 i1 h (fun r4 h5 => ∃ k8 k9 : Nat, 0 + k8 ≤ mc ∧ 0 + k9 ≤ ms ∧ (w_X1_exists k8 k9 r4 h5 X (fun h7 => gfR h7 a0 0 0 (fun v12 => nn v12 (fun y13 => hasC h7 y13 1 ∧ (w_X2_canShow y13 i1 i2 h7 (fun r15 h16 => ∃ k19 k20 : Nat, (0 + k8) + k19 ≤ mc ∧ (0 + k9) + k20 ≤ ms ∧ (w_X1_check k19 k20 r15 h16 X (fun h18 => hasC h18 a0 0 ∧ (∃ k26 k27 : Nat, ((0 + k8) + k19) + k26 ≤ mc ∧ ((0 + k9) + k20) + k27 ≤ ms ∧ (w_X1_remember k26 k27 a0 h18 (fun h25 => gfR h25 a0 0 0 (fun v30 => nn v30 (fun y31 => hasC h25 y31 1 ∧ (w_X2_show y31 i1 i2 h25 (fun r33 h34 => Q r33 h34)))))))))))))))))))
theorem sg_X1_show : ySg yX1_show 2 = true := by decide +kernel
theorem c_X1_show (G : gT) (l : Launch) (mc ms : Nat) (a0 : Nat) (i1 : Int32) (i2 : Int32) (h : Hp) (X : String → Hp → Prop) (Q : Int32 → Hp → Prop) (hst : l.stackTraces = false) (hw : w_X1_show mc ms a0 i1 i2 h X Q) : CtX G l yX1_show (ws_ yX1_show cX1_show 3 (some .int)) 10 258 mc ms [.ref a0, .int i1, .int i2] h (pI Q) X := by
  refine CtX.of (own := RX1) hst (by decide +kernel) rfl (show (_ : Nat) ≤ _ from Nat.le_of_ble_eq_true rfl) (fun V C => ?_)
  show V h 0 0 0 [(0, .ref a0), (1, .int i1), (2, .int i2)] []
  unfold w_X1_show at hw
  refine r_aload_n C rfl 0 rfl dX1_show_0 ?_
  refine r_gfR (k := 0) C kX1 (by decide) (Or.inl q344) (Or.inl rfl) dX1_show_1 hw (fun v1 hw => ?_)
  refine r_iload_n C rfl 1 rfl dX1_show_4 ?_
  obtain ⟨y2, rfl, hw_y2⟩ := hw
  have hw := hw_y2
  obtain ⟨hq3, hw⟩ := hw
  refine r_callV (ci := 1) (rest := []) (As := [.int i1]) C sg_X2_hasSeal rfl rfl q1035 q1036 q1037 q78 q1038 rfl (Nat.le_of_ble_eq_true rfl) dX1_show_5 rfl hq3 (Nat.zero_le _) (Nat.zero_le _) (c_X2_hasSeal G l y2 i1 h _ hw) (k_Z (fun r4 h5 hw => ?_))
  obtain ⟨k8, k9, hp10, hp11, hw⟩ := hw
  refine r_callSX (rest := []) (As := [.int (bI r4)]) C sg_X1_exists q1599 q1600 q77 q1601 rfl (Nat.le_of_ble_eq_true rfl) dX1_show_8 rfl hp10 hp11 (c_X1_exists G l k8 k9 r4 h5 X _ (st_C C) hw) (k_V (fun h7 hw => ?_))
  refine r_aload_n C rfl 0 rfl dX1_show_11 ?_
  refine r_gfR (k := 0) C kX1 (by decide) (Or.inl q344) (Or.inl rfl) dX1_show_12 hw (fun v12 hw => ?_)
  refine r_iload_n C rfl 1 rfl dX1_show_15 (r_iload_n C rfl 2 rfl dX1_show_16 ?_)
  obtain ⟨y13, rfl, hw_y13⟩ := hw
  have hw := hw_y13
  obtain ⟨hq14, hw⟩ := hw
  refine r_callV (ci := 1) (rest := []) (As := [.int i1, .int i2]) C sg_X2_canShow rfl rfl q1832 q1833 q1834 q78 q1835 rfl (Nat.le_of_ble_eq_true rfl) dX1_show_17 rfl hq14 hp10 hp11 (c_X2_canShow G l y13 i1 i2 h7 _ hw) (k_Z (fun r15 h16 hw => ?_))
  obtain ⟨k19, k20, hp21, hp22, hw⟩ := hw
  refine r_callSX (rest := []) (As := [.int (bI r15)]) C sg_X1_check q1332 q1333 q77 q1334 rfl (Nat.le_of_ble_eq_true rfl) dX1_show_20 rfl hp21 hp22 (c_X1_check G l k19 k20 r15 h16 X _ (st_C C) hw) (k_V (fun h18 hw => ?_))
  refine r_aload_n C rfl 0 rfl dX1_show_23 ?_
  obtain ⟨hq23, hw⟩ := hw
  obtain ⟨k26, k27, hp28, hp29, hw⟩ := hw
  refine r_callV (ci := 0) (rest := []) (As := []) C sg_X1_remember rfl rfl q1724 q1726 qs33 q77 q1727 rfl (Nat.le_of_ble_eq_true rfl) dX1_show_24 rfl hq23 hp28 hp29 (c_X1_remember G l k26 k27 a0 h18 _ hw) (k_V (fun h25 hw => ?_))
  refine r_aload_n C rfl 0 rfl dX1_show_27 ?_
  refine r_gfR (k := 0) C kX1 (by decide) (Or.inl q344) (Or.inl rfl) dX1_show_28 hw (fun v30 hw => ?_)
  refine r_iload_n C rfl 1 rfl dX1_show_31 (r_iload_n C rfl 2 rfl dX1_show_32 ?_)
  obtain ⟨y31, rfl, hw_y31⟩ := hw
  have hw := hw_y31
  obtain ⟨hq32, hw⟩ := hw
  refine r_callV (ci := 1) (rest := []) (As := [.int i1, .int i2]) C sg_X2_show rfl rfl q1838 q1839 q1840 q78 q1841 rfl (Nat.le_of_ble_eq_true rfl) dX1_show_33 rfl hq32 hp28 hp29 (c_X2_show G l y31 i1 i2 h25 _ hw) (k_I (fun r33 h34 hw => ?_))
  exact r_ireturn C dX1_show_36 hp28 hp29 ⟨_, rfl, hw⟩
def B_X1_hang_23 (mc ms : Nat) (X : String → Hp → Prop) (Q : Int32 → Hp → Prop) (h : Hp) (c : Nat) (n : Nat) (x0 : Nat) (x1 : Int32) (x2 : Int32) (s0 : Bool) : Prop :=
  ∃ k3 k4 : Nat, c + k3 ≤ mc ∧ n + k4 ≤ ms ∧ (w_X1_exists k3 k4 s0 h X (fun h2 => hasC h2 x0 0 ∧ (∃ k10 k11 : Nat, (c + k3) + k10 ≤ mc ∧ (n + k4) + k11 ≤ ms ∧ (w_X1_remember k10 k11 x0 h2 (fun h9 => gfR h9 x0 0 0 (fun v14 => nn v14 (fun y15 => hasC h9 y15 1 ∧ (∃ k19 k20 : Nat, ((c + k3) + k10) + k19 ≤ mc ∧ ((n + k4) + k11) + k20 ≤ ms ∧ (w_X2_hang k19 k20 y15 x1 x2 h9 (fun r17 h18 => Q r17 h18))))))))))
def w_X1_hang (mc ms : Nat) (a0 : Nat) (i1 : Int32) (i2 : Int32) (h : Hp) (X : String → Hp → Prop) (Q : Int32 → Hp → Prop) : Prop :=
  gfR h a0 0 0 (fun v23 => nn v23 (fun y24 => hasC h y24 1 ∧ (w_X2_hasSeal y24 i1 h (fun r26 h27 => (r26 = false → B_X1_hang_23 mc ms X Q h27 0 0 a0 i1 i2 false) ∧ (r26 = true → w_X1_isCharter i2 h27 (fun r29 h30 => B_X1_hang_23 mc ms X Q h30 0 0 a0 i1 i2 (if r29 = false then false else true)))))))
theorem b_X1_hang_23 {G : gT} {l : Launch} {V : Hp → Nat → Nat → Nat → List (Nat × Value) → List Value → Prop} {mc ms : Nat} {X : String → Hp → Prop} {Q : Int32 → Hp → Prop} (C : Cx G l V cX1_hang 3 RX1 10 258 mc ms (pI Q) (some X) (some .int) [] false) (h : Hp) (c : Nat) (n : Nat) (x0 : Nat) (x1 : Int32) (x2 : Int32) (s0 : Bool) (b1 : c ≤ mc) (b2 : n ≤ ms) (hw : B_X1_hang_23 mc ms X Q h c n x0 x1 x2 s0) : V h c n 23 [(0, .ref x0), (1, .int x1), (2, .int x2)] [.int (bI s0)] := by
  unfold B_X1_hang_23 at hw
  obtain ⟨k3, k4, hp5, hp6, hw⟩ := hw
  refine r_callSX (rest := []) (As := [.int (bI s0)]) C sg_X1_exists q1599 q1600 q77 q1601 rfl (Nat.le_of_ble_eq_true rfl) dX1_hang_23 rfl hp5 hp6 (c_X1_exists G l k3 k4 s0 h X _ (st_C C) hw) (k_V (fun h2 hw => ?_))
  refine r_aload_n C rfl 0 rfl dX1_hang_26 ?_
  obtain ⟨hq7, hw⟩ := hw
  obtain ⟨k10, k11, hp12, hp13, hw⟩ := hw
  refine r_callV (ci := 0) (rest := []) (As := []) C sg_X1_remember rfl rfl q1724 q1726 qs33 q77 q1727 rfl (Nat.le_of_ble_eq_true rfl) dX1_hang_27 rfl hq7 hp12 hp13 (c_X1_remember G l k10 k11 x0 h2 _ hw) (k_V (fun h9 hw => ?_))
  refine r_aload_n C rfl 0 rfl dX1_hang_30 ?_
  refine r_gfR (k := 0) C kX1 (by decide) (Or.inl q344) (Or.inl rfl) dX1_hang_31 hw (fun v14 hw => ?_)
  refine r_iload_n C rfl 1 rfl dX1_hang_34 (r_iload_n C rfl 2 rfl dX1_hang_35 ?_)
  obtain ⟨y15, rfl, hw_y15⟩ := hw
  have hw := hw_y15
  obtain ⟨hq16, hw⟩ := hw
  obtain ⟨k19, k20, hp21, hp22, hw⟩ := hw
  refine r_callV (ci := 1) (rest := []) (As := [.int x1, .int x2]) C sg_X2_hang rfl rfl q1039 q1040 q1041 q78 q1042 rfl (Nat.le_of_ble_eq_true rfl) dX1_hang_36 rfl hq16 hp21 hp22 (c_X2_hang G l k19 k20 y15 x1 x2 h9 _ hw) (k_I (fun r17 h18 hw => ?_))
  exact r_ireturn C dX1_hang_39 hp21 hp22 ⟨_, rfl, hw⟩
theorem sg_X1_hang : ySg yX1_hang 2 = true := by decide +kernel
theorem c_X1_hang (G : gT) (l : Launch) (mc ms : Nat) (a0 : Nat) (i1 : Int32) (i2 : Int32) (h : Hp) (X : String → Hp → Prop) (Q : Int32 → Hp → Prop) (hst : l.stackTraces = false) (hw : w_X1_hang mc ms a0 i1 i2 h X Q) : CtX G l yX1_hang (ws_ yX1_hang cX1_hang 3 (some .int)) 10 258 mc ms [.ref a0, .int i1, .int i2] h (pI Q) X := by
  refine CtX.of (own := RX1) hst (by decide +kernel) rfl (show (_ : Nat) ≤ _ from Nat.le_of_ble_eq_true rfl) (fun V C => ?_)
  show V h 0 0 0 [(0, .ref a0), (1, .int i1), (2, .int i2)] []
  unfold w_X1_hang at hw
  refine r_aload_n C rfl 0 rfl dX1_hang_0 ?_
  refine r_gfR (k := 0) C kX1 (by decide) (Or.inl q344) (Or.inl rfl) dX1_hang_1 hw (fun v23 hw => ?_)
  refine r_iload_n C rfl 1 rfl dX1_hang_4 ?_
  obtain ⟨y24, rfl, hw_y24⟩ := hw
  have hw := hw_y24
  obtain ⟨hq25, hw⟩ := hw
  refine r_callV (ci := 1) (rest := []) (As := [.int i1]) C sg_X2_hasSeal rfl rfl q1035 q1036 q1037 q78 q1038 rfl (Nat.le_of_ble_eq_true rfl) dX1_hang_5 rfl hq25 (Nat.zero_le _) (Nat.zero_le _) (c_X2_hasSeal G l y24 i1 h _ hw) (k_Z (fun r26 h27 hw => ?_))
  refine r_if_eq_b (tgt := 22) C (by decide) dX1_hang_8 (fun hc28 => ?_) (fun hc28 => ?_)
  · have hw := hw.1 hc28
    refine r_iconst (v := (0 : Int32)) C (by decide) dX1_hang_22 ?_
    exact r_sub C [0, 1, 2] rfl (b_X1_hang_23 C _ _ _ _ _ _ _ (Nat.zero_le _) (Nat.zero_le _) hw)
  · have hw := hw.2 hc28
    refine r_iload_n C rfl 2 rfl dX1_hang_11 ?_
    refine r_callS (rest := []) (As := [.int i2]) C sg_X1_isCharter q1700 q1701 q77 q1702 rfl (Nat.le_of_ble_eq_true rfl) dX1_hang_12 rfl (Nat.zero_le _) (Nat.zero_le _) (c_X1_isCharter G l i2 h27 _ hw) (k_Z (fun r29 h30 hw => ?_))
    have hJ : V h30 0 0 23 [(0, .ref a0), (1, .int i1), (2, .int i2)] [.int (bI (if r29 = false then false else true))] := by
      exact r_sub C [0, 1, 2] rfl (b_X1_hang_23 C _ _ _ _ _ _ _ (Nat.zero_le _) (Nat.zero_le _) hw)
    refine r_if_eq_b (tgt := 22) C (by decide) dX1_hang_15 (fun hc31 => ?_) (fun hc31 => ?_)
    · have hJ32 := hJ
      try simp only [if_pos hc31] at hJ32
      refine r_iconst (v := (0 : Int32)) C (by decide) dX1_hang_22 ?_
      exact r_sub C [0, 1, 2] rfl hJ32
    · have hJ32 := hJ
      try simp only [if_neg (show ¬ r29 = false from by rw [hc31]; decide)] at hJ32
      refine r_iconst (v := (1 : Int32)) C (by decide) dX1_hang_18 (r_goto (tgt := 23) C (by decide) dX1_hang_19 ?_)
      exact r_sub C [0, 1, 2] rfl hJ32
def w_X1_cut (mc ms : Nat) (a0 : Nat) (i1 : Int32) (h : Hp) (X : String → Hp → Prop) (Q : Int32 → Hp → Prop) : Prop :=
  gfR h a0 0 0 (fun v1 => nn v1 (fun y2 => hasC h y2 1 ∧ (w_X2_hasSeal y2 i1 h (fun r4 h5 => ∃ k8 k9 : Nat, 0 + k8 ≤ mc ∧ 0 + k9 ≤ ms ∧ (w_X1_exists k8 k9 r4 h5 X (fun h7 => gfR h7 a0 0 0 (fun v12 => nn v12 (fun y13 => gfR h7 y13 1 2 (fun v14 => nn v14 (fun y15 => hasC h7 y15 8 ∧ (wj_J2_get y15 i1 h7 (fun r17 h18 => (∀ z19 : Nat, r17 = some z19 → hasC h18 z19 5) ∧ (nn r17 (fun y21 => gfI h18 y21 5 5 (fun v22 => ∃ k25 k26 : Nat, (0 + k8) + k25 ≤ mc ∧ (0 + k9) + k26 ≤ ms ∧ (w_X1_free k25 k26 (if v22 = (-1 : Int32) then false else true) h18 X (fun h24 => hasC h24 a0 0 ∧ (∃ k32 k33 : Nat, ((0 + k8) + k25) + k32 ≤ mc ∧ ((0 + k9) + k26) + k33 ≤ ms ∧ (w_X1_remember k32 k33 a0 h24 (fun h31 => gfR h31 a0 0 0 (fun v36 => nn v36 (fun y37 => hasC h31 y37 1 ∧ (w_X2_cut y37 i1 h31 (fun r39 h40 => Q r39 h40))))))))))))))))))))))))
theorem sg_X1_cut : ySg yX1_cut 1 = true := by decide +kernel
theorem c_X1_cut (G : gT) (l : Launch) (mc ms : Nat) (a0 : Nat) (i1 : Int32) (h : Hp) (X : String → Hp → Prop) (Q : Int32 → Hp → Prop) (hst : l.stackTraces = false) (hw : w_X1_cut mc ms a0 i1 h X Q) : CtX G l yX1_cut (ws_ yX1_cut cX1_cut 2 (some .int)) 10 258 mc ms [.ref a0, .int i1] h (pI Q) X := by
  refine CtX.of (own := RX1) hst (by decide +kernel) rfl (show (_ : Nat) ≤ _ from Nat.le_of_ble_eq_true rfl) (fun V C => ?_)
  show V h 0 0 0 [(0, .ref a0), (1, .int i1)] []
  unfold w_X1_cut at hw
  refine r_aload_n C rfl 0 rfl dX1_cut_0 ?_
  refine r_gfR (k := 0) C kX1 (by decide) (Or.inl q344) (Or.inl rfl) dX1_cut_1 hw (fun v1 hw => ?_)
  refine r_iload_n C rfl 1 rfl dX1_cut_4 ?_
  obtain ⟨y2, rfl, hw_y2⟩ := hw
  have hw := hw_y2
  obtain ⟨hq3, hw⟩ := hw
  refine r_callV (ci := 1) (rest := []) (As := [.int i1]) C sg_X2_hasSeal rfl rfl q1035 q1036 q1037 q78 q1038 rfl (Nat.le_of_ble_eq_true rfl) dX1_cut_5 rfl hq3 (Nat.zero_le _) (Nat.zero_le _) (c_X2_hasSeal G l y2 i1 h _ hw) (k_Z (fun r4 h5 hw => ?_))
  obtain ⟨k8, k9, hp10, hp11, hw⟩ := hw
  refine r_callSX (rest := []) (As := [.int (bI r4)]) C sg_X1_exists q1599 q1600 q77 q1601 rfl (Nat.le_of_ble_eq_true rfl) dX1_cut_8 rfl hp10 hp11 (c_X1_exists G l k8 k9 r4 h5 X _ (st_C C) hw) (k_V (fun h7 hw => ?_))
  refine r_aload_n C rfl 0 rfl dX1_cut_11 ?_
  refine r_gfR (k := 0) C kX1 (by decide) (Or.inl q344) (Or.inl rfl) dX1_cut_12 hw (fun v12 hw => ?_)
  obtain ⟨y13, rfl, hw_y13⟩ := hw
  have hw := hw_y13
  refine r_gfR (k := 2) C kX2 (by decide) (Or.inr ⟨_, (List.mem_of_getElem? (i := 5) rfl)⟩) (Or.inl rfl) dX1_cut_15 hw (fun v14 hw => ?_)
  refine r_iload_n C rfl 1 rfl dX1_cut_18 ?_
  obtain ⟨y15, rfl, hw_y15⟩ := hw
  have hw := hw_y15
  obtain ⟨hq16, hw⟩ := hw
  refine r_callF (ci := 8) (rest := []) (As := [.int i1]) C (x := ⟨"java/util/List", "get", "(I)Ljava/lang/Object;"⟩) (show ySg ⟨"java/util/List", "get", "(I)Ljava/lang/Object;"⟩ 1 = true by decide +kernel) rfl q887 q453 q455 q81 q457 (List.mem_of_getElem? (i := 6) rfl) rfl (Nat.le_of_ble_eq_true rfl) dX1_cut_19 rfl hq16 hp10 hp11 (cj_J2_get G l y15 i1 h7 _ hw) (k_R (fun r17 h18 hw => ?_))
  obtain ⟨e20, hw⟩ := hw
  refine r_cast (x := r17) C (ci := 5) rfl q1534 dX1_cut_24 e20 ?_
  obtain ⟨y21, rfl, hw_y21⟩ := hw
  have hw := hw_y21
  refine r_gfI (k := 5) C kX6 (by decide) (Or.inr ⟨_, (List.mem_of_getElem? (i := 40) rfl)⟩) (Or.inl rfl) dX1_cut_27 hw (fun v22 hw => ?_)
  refine r_iconst (v := (-1 : Int32)) C (by decide) dX1_cut_30 ?_
  have hJ : V h18 (0 + k8) (0 + k9) 39 [(0, .ref a0), (1, .int i1)] [.int (bI (if v22 = (-1 : Int32) then false else true))] := by
    obtain ⟨k25, k26, hp27, hp28, hw⟩ := hw
    refine r_callSX (rest := []) (As := [.int (bI (if v22 = (-1 : Int32) then false else true))]) C sg_X1_free q1340 q1341 q77 q1342 rfl (Nat.le_of_ble_eq_true rfl) dX1_cut_39 rfl hp27 hp28 (c_X1_free G l k25 k26 (if v22 = (-1 : Int32) then false else true) h18 X _ (st_C C) hw) (k_V (fun h24 hw => ?_))
    refine r_aload_n C rfl 0 rfl dX1_cut_42 ?_
    obtain ⟨hq29, hw⟩ := hw
    obtain ⟨k32, k33, hp34, hp35, hw⟩ := hw
    refine r_callV (ci := 0) (rest := []) (As := []) C sg_X1_remember rfl rfl q1724 q1726 qs33 q77 q1727 rfl (Nat.le_of_ble_eq_true rfl) dX1_cut_43 rfl hq29 hp34 hp35 (c_X1_remember G l k32 k33 a0 h24 _ hw) (k_V (fun h31 hw => ?_))
    refine r_aload_n C rfl 0 rfl dX1_cut_46 ?_
    refine r_gfR (k := 0) C kX1 (by decide) (Or.inl q344) (Or.inl rfl) dX1_cut_47 hw (fun v36 hw => ?_)
    refine r_iload_n C rfl 1 rfl dX1_cut_50 ?_
    obtain ⟨y37, rfl, hw_y37⟩ := hw
    have hw := hw_y37
    obtain ⟨hq38, hw⟩ := hw
    refine r_callV (ci := 1) (rest := []) (As := [.int i1]) C sg_X2_cut rfl rfl q1856 q1857 q1858 q78 q1859 rfl (Nat.le_of_ble_eq_true rfl) dX1_cut_51 rfl hq38 hp34 hp35 (c_X2_cut G l y37 i1 h31 _ hw) (k_I (fun r39 h40 hw => ?_))
    exact r_ireturn C dX1_cut_54 hp34 hp35 ⟨_, rfl, hw⟩
  refine r_icmp_eq (tgt := 38) C (by decide) dX1_cut_31 (fun hc41 => ?_) (fun hc41 => ?_)
  · have hJ42 := hJ
    try simp only [if_pos hc41] at hJ42
    refine r_iconst (v := (0 : Int32)) C (by decide) dX1_cut_38 ?_
    exact r_sub C [0, 1] rfl hJ42
  · have hJ42 := hJ
    try simp only [if_neg hc41] at hJ42
    refine r_iconst (v := (1 : Int32)) C (by decide) dX1_cut_34 (r_goto (tgt := 39) C (by decide) dX1_cut_35 ?_)
    exact r_sub C [0, 1] rfl hJ42
def B_X1_shelve_23 (mc ms : Nat) (X : String → Hp → Prop) (Q : Int32 → Hp → Prop) (h : Hp) (c : Nat) (n : Nat) (x0 : Nat) (x1 : Int32) (x2 : Int32) (x3 : Int32) (s0 : Bool) : Prop :=
  ∃ k3 k4 : Nat, c + k3 ≤ mc ∧ n + k4 ≤ ms ∧ (w_X1_exists k3 k4 s0 h X (fun h2 => gfR h2 x0 0 0 (fun v7 => nn v7 (fun y8 => hasC h2 y8 1 ∧ (∃ k12 k13 : Nat, (c + k3) + k12 ≤ mc ∧ (n + k4) + k13 ≤ ms ∧ (w_X2_isPlace k12 k13 y8 x1 x2 x3 h2 (fun r10 h11 => ∃ k18 k19 : Nat, ((c + k3) + k12) + k18 ≤ mc ∧ ((n + k4) + k13) + k19 ≤ ms ∧ (w_X1_check k18 k19 r10 h11 X (fun h17 => gfR h17 x0 0 0 (fun v22 => nn v22 (fun y23 => hasC h17 y23 1 ∧ (∃ k27 k28 : Nat, (((c + k3) + k12) + k18) + k27 ≤ mc ∧ (((n + k4) + k13) + k19) + k28 ≤ ms ∧ (w_X2_canShelve k27 k28 y23 x1 x2 h17 (fun r25 h26 => ∃ k33 k34 : Nat, ((((c + k3) + k12) + k18) + k27) + k33 ≤ mc ∧ ((((n + k4) + k13) + k19) + k28) + k34 ≤ ms ∧ (w_X1_free k33 k34 r25 h26 X (fun h32 => hasC h32 x0 0 ∧ (∃ k40 k41 : Nat, (((((c + k3) + k12) + k18) + k27) + k33) + k40 ≤ mc ∧ (((((n + k4) + k13) + k19) + k28) + k34) + k41 ≤ ms ∧ (w_X1_remember k40 k41 x0 h32 (fun h39 => gfR h39 x0 0 0 (fun v44 => nn v44 (fun y45 => hasC h39 y45 1 ∧ (∃ k49 k50 : Nat, ((((((c + k3) + k12) + k18) + k27) + k33) + k40) + k49 ≤ mc ∧ ((((((n + k4) + k13) + k19) + k28) + k34) + k41) + k50 ≤ ms ∧ (w_X2_shelve k49 k50 y45 x1 x2 x3 h39 (fun r47 h48 => Q r47 h48))))))))))))))))))))))))
def w_X1_shelve (mc ms : Nat) (a0 : Nat) (i1 : Int32) (i2 : Int32) (i3 : Int32) (h : Hp) (X : String → Hp → Prop) (Q : Int32 → Hp → Prop) : Prop :=
  gfR h a0 0 0 (fun v53 => nn v53 (fun y54 => hasC h y54 1 ∧ (w_X2_hasSeal y54 i1 h (fun r56 h57 => (r56 = false → B_X1_shelve_23 mc ms X Q h57 0 0 a0 i1 i2 i3 false) ∧ (r56 = true → w_X1_isShelf i2 h57 (fun r59 h60 => B_X1_shelve_23 mc ms X Q h60 0 0 a0 i1 i2 i3 (if r59 = false then false else true)))))))
theorem b_X1_shelve_23 {G : gT} {l : Launch} {V : Hp → Nat → Nat → Nat → List (Nat × Value) → List Value → Prop} {mc ms : Nat} {X : String → Hp → Prop} {Q : Int32 → Hp → Prop} (C : Cx G l V cX1_shelve 4 RX1 10 258 mc ms (pI Q) (some X) (some .int) [] false) (h : Hp) (c : Nat) (n : Nat) (x0 : Nat) (x1 : Int32) (x2 : Int32) (x3 : Int32) (s0 : Bool) (b1 : c ≤ mc) (b2 : n ≤ ms) (hw : B_X1_shelve_23 mc ms X Q h c n x0 x1 x2 x3 s0) : V h c n 23 [(0, .ref x0), (1, .int x1), (2, .int x2), (3, .int x3)] [.int (bI s0)] := by
  unfold B_X1_shelve_23 at hw
  obtain ⟨k3, k4, hp5, hp6, hw⟩ := hw
  refine r_callSX (rest := []) (As := [.int (bI s0)]) C sg_X1_exists q1599 q1600 q77 q1601 rfl (Nat.le_of_ble_eq_true rfl) dX1_shelve_23 rfl hp5 hp6 (c_X1_exists G l k3 k4 s0 h X _ (st_C C) hw) (k_V (fun h2 hw => ?_))
  refine r_aload_n C rfl 0 rfl dX1_shelve_26 ?_
  refine r_gfR (k := 0) C kX1 (by decide) (Or.inl q344) (Or.inl rfl) dX1_shelve_27 hw (fun v7 hw => ?_)
  refine r_iload_n C rfl 1 rfl dX1_shelve_30 (r_iload_n C rfl 2 rfl dX1_shelve_31 (r_iload_n C rfl 3 rfl dX1_shelve_32 ?_))
  obtain ⟨y8, rfl, hw_y8⟩ := hw
  have hw := hw_y8
  obtain ⟨hq9, hw⟩ := hw
  obtain ⟨k12, k13, hp14, hp15, hw⟩ := hw
  refine r_callV (ci := 1) (rest := []) (As := [.int x1, .int x2, .int x3]) C sg_X2_isPlace rfl rfl q1867 q1868 q1869 q78 q1870 rfl (Nat.le_of_ble_eq_true rfl) dX1_shelve_33 rfl hq9 hp14 hp15 (c_X2_isPlace G l k12 k13 y8 x1 x2 x3 h2 _ hw) (k_Z (fun r10 h11 hw => ?_))
  obtain ⟨k18, k19, hp20, hp21, hw⟩ := hw
  refine r_callSX (rest := []) (As := [.int (bI r10)]) C sg_X1_check q1332 q1333 q77 q1334 rfl (Nat.le_of_ble_eq_true rfl) dX1_shelve_36 rfl hp20 hp21 (c_X1_check G l k18 k19 r10 h11 X _ (st_C C) hw) (k_V (fun h17 hw => ?_))
  refine r_aload_n C rfl 0 rfl dX1_shelve_39 ?_
  refine r_gfR (k := 0) C kX1 (by decide) (Or.inl q344) (Or.inl rfl) dX1_shelve_40 hw (fun v22 hw => ?_)
  refine r_iload_n C rfl 1 rfl dX1_shelve_43 (r_iload_n C rfl 2 rfl dX1_shelve_44 ?_)
  obtain ⟨y23, rfl, hw_y23⟩ := hw
  have hw := hw_y23
  obtain ⟨hq24, hw⟩ := hw
  obtain ⟨k27, k28, hp29, hp30, hw⟩ := hw
  refine r_callV (ci := 1) (rest := []) (As := [.int x1, .int x2]) C sg_X2_canShelve rfl rfl q1872 q1873 q1874 q78 q1875 rfl (Nat.le_of_ble_eq_true rfl) dX1_shelve_45 rfl hq24 hp29 hp30 (c_X2_canShelve G l k27 k28 y23 x1 x2 h17 _ hw) (k_Z (fun r25 h26 hw => ?_))
  obtain ⟨k33, k34, hp35, hp36, hw⟩ := hw
  refine r_callSX (rest := []) (As := [.int (bI r25)]) C sg_X1_free q1340 q1341 q77 q1342 rfl (Nat.le_of_ble_eq_true rfl) dX1_shelve_48 rfl hp35 hp36 (c_X1_free G l k33 k34 r25 h26 X _ (st_C C) hw) (k_V (fun h32 hw => ?_))
  refine r_aload_n C rfl 0 rfl dX1_shelve_51 ?_
  obtain ⟨hq37, hw⟩ := hw
  obtain ⟨k40, k41, hp42, hp43, hw⟩ := hw
  refine r_callV (ci := 0) (rest := []) (As := []) C sg_X1_remember rfl rfl q1724 q1726 qs33 q77 q1727 rfl (Nat.le_of_ble_eq_true rfl) dX1_shelve_52 rfl hq37 hp42 hp43 (c_X1_remember G l k40 k41 x0 h32 _ hw) (k_V (fun h39 hw => ?_))
  refine r_aload_n C rfl 0 rfl dX1_shelve_55 ?_
  refine r_gfR (k := 0) C kX1 (by decide) (Or.inl q344) (Or.inl rfl) dX1_shelve_56 hw (fun v44 hw => ?_)
  refine r_iload_n C rfl 1 rfl dX1_shelve_59 (r_iload_n C rfl 2 rfl dX1_shelve_60 (r_iload_n C rfl 3 rfl dX1_shelve_61 ?_))
  obtain ⟨y45, rfl, hw_y45⟩ := hw
  have hw := hw_y45
  obtain ⟨hq46, hw⟩ := hw
  obtain ⟨k49, k50, hp51, hp52, hw⟩ := hw
  refine r_callV (ci := 1) (rest := []) (As := [.int x1, .int x2, .int x3]) C sg_X2_shelve rfl rfl q1885 q1886 q1887 q78 q1888 rfl (Nat.le_of_ble_eq_true rfl) dX1_shelve_62 rfl hq46 hp51 hp52 (c_X2_shelve G l k49 k50 y45 x1 x2 x3 h39 _ hw) (k_I (fun r47 h48 hw => ?_))
  exact r_ireturn C dX1_shelve_65 hp51 hp52 ⟨_, rfl, hw⟩
theorem sg_X1_shelve : ySg yX1_shelve 3 = true := by decide +kernel
theorem c_X1_shelve (G : gT) (l : Launch) (mc ms : Nat) (a0 : Nat) (i1 : Int32) (i2 : Int32) (i3 : Int32) (h : Hp) (X : String → Hp → Prop) (Q : Int32 → Hp → Prop) (hst : l.stackTraces = false) (hw : w_X1_shelve mc ms a0 i1 i2 i3 h X Q) : CtX G l yX1_shelve (ws_ yX1_shelve cX1_shelve 4 (some .int)) 10 258 mc ms [.ref a0, .int i1, .int i2, .int i3] h (pI Q) X := by
  refine CtX.of (own := RX1) hst (by decide +kernel) rfl (show (_ : Nat) ≤ _ from Nat.le_of_ble_eq_true rfl) (fun V C => ?_)
  show V h 0 0 0 [(0, .ref a0), (1, .int i1), (2, .int i2), (3, .int i3)] []
  unfold w_X1_shelve at hw
  refine r_aload_n C rfl 0 rfl dX1_shelve_0 ?_
  refine r_gfR (k := 0) C kX1 (by decide) (Or.inl q344) (Or.inl rfl) dX1_shelve_1 hw (fun v53 hw => ?_)
  refine r_iload_n C rfl 1 rfl dX1_shelve_4 ?_
  obtain ⟨y54, rfl, hw_y54⟩ := hw
  have hw := hw_y54
  obtain ⟨hq55, hw⟩ := hw
  refine r_callV (ci := 1) (rest := []) (As := [.int i1]) C sg_X2_hasSeal rfl rfl q1035 q1036 q1037 q78 q1038 rfl (Nat.le_of_ble_eq_true rfl) dX1_shelve_5 rfl hq55 (Nat.zero_le _) (Nat.zero_le _) (c_X2_hasSeal G l y54 i1 h _ hw) (k_Z (fun r56 h57 hw => ?_))
  refine r_if_eq_b (tgt := 22) C (by decide) dX1_shelve_8 (fun hc58 => ?_) (fun hc58 => ?_)
  · have hw := hw.1 hc58
    refine r_iconst (v := (0 : Int32)) C (by decide) dX1_shelve_22 ?_
    exact r_sub C [0, 1, 2, 3] rfl (b_X1_shelve_23 C _ _ _ _ _ _ _ _ (Nat.zero_le _) (Nat.zero_le _) hw)
  · have hw := hw.2 hc58
    refine r_iload_n C rfl 2 rfl dX1_shelve_11 ?_
    refine r_callS (rest := []) (As := [.int i2]) C sg_X1_isShelf q1712 q1713 q77 q1714 rfl (Nat.le_of_ble_eq_true rfl) dX1_shelve_12 rfl (Nat.zero_le _) (Nat.zero_le _) (c_X1_isShelf G l i2 h57 _ hw) (k_Z (fun r59 h60 hw => ?_))
    have hJ : V h60 0 0 23 [(0, .ref a0), (1, .int i1), (2, .int i2), (3, .int i3)] [.int (bI (if r59 = false then false else true))] := by
      exact r_sub C [0, 1, 2, 3] rfl (b_X1_shelve_23 C _ _ _ _ _ _ _ _ (Nat.zero_le _) (Nat.zero_le _) hw)
    refine r_if_eq_b (tgt := 22) C (by decide) dX1_shelve_15 (fun hc61 => ?_) (fun hc61 => ?_)
    · have hJ62 := hJ
      try simp only [if_pos hc61] at hJ62
      refine r_iconst (v := (0 : Int32)) C (by decide) dX1_shelve_22 ?_
      exact r_sub C [0, 1, 2, 3] rfl hJ62
    · have hJ62 := hJ
      try simp only [if_neg (show ¬ r59 = false from by rw [hc61]; decide)] at hJ62
      refine r_iconst (v := (1 : Int32)) C (by decide) dX1_shelve_18 (r_goto (tgt := 23) C (by decide) dX1_shelve_19 ?_)
      exact r_sub C [0, 1, 2, 3] rfl hJ62
def w_X1_take (mc ms : Nat) (a0 : Nat) (i1 : Int32) (h : Hp) (X : String → Hp → Prop) (Q : Int32 → Hp → Prop) : Prop :=
  gfR h a0 0 0 (fun v1 => nn v1 (fun y2 => hasC h y2 1 ∧ (w_X2_hasSeal y2 i1 h (fun r4 h5 => ∃ k8 k9 : Nat, 0 + k8 ≤ mc ∧ 0 + k9 ≤ ms ∧ (w_X1_exists k8 k9 r4 h5 X (fun h7 => gfR h7 a0 0 0 (fun v12 => nn v12 (fun y13 => hasC h7 y13 1 ∧ (∃ k17 k18 : Nat, (0 + k8) + k17 ≤ mc ∧ (0 + k9) + k18 ≤ ms ∧ (w_X2_shelfOf k17 k18 y13 i1 h7 (fun r15 h16 => ∃ k23 k24 : Nat, ((0 + k8) + k17) + k23 ≤ mc ∧ ((0 + k9) + k18) + k24 ≤ ms ∧ (w_X1_free k23 k24 (if r15 = (-1 : Int32) then false else true) h16 X (fun h22 => hasC h22 a0 0 ∧ (∃ k30 k31 : Nat, (((0 + k8) + k17) + k23) + k30 ≤ mc ∧ (((0 + k9) + k18) + k24) + k31 ≤ ms ∧ (w_X1_remember k30 k31 a0 h22 (fun h29 => gfR h29 a0 0 0 (fun v34 => nn v34 (fun y35 => hasC h29 y35 1 ∧ (∃ k39 k40 : Nat, ((((0 + k8) + k17) + k23) + k30) + k39 ≤ mc ∧ ((((0 + k9) + k18) + k24) + k31) + k40 ≤ ms ∧ (w_X2_take k39 k40 y35 i1 h29 (fun r37 h38 => Q r37 h38)))))))))))))))))))))
theorem sg_X1_take : ySg yX1_take 1 = true := by decide +kernel
theorem c_X1_take (G : gT) (l : Launch) (mc ms : Nat) (a0 : Nat) (i1 : Int32) (h : Hp) (X : String → Hp → Prop) (Q : Int32 → Hp → Prop) (hst : l.stackTraces = false) (hw : w_X1_take mc ms a0 i1 h X Q) : CtX G l yX1_take (ws_ yX1_take cX1_take 2 (some .int)) 10 258 mc ms [.ref a0, .int i1] h (pI Q) X := by
  refine CtX.of (own := RX1) hst (by decide +kernel) rfl (show (_ : Nat) ≤ _ from Nat.le_of_ble_eq_true rfl) (fun V C => ?_)
  show V h 0 0 0 [(0, .ref a0), (1, .int i1)] []
  unfold w_X1_take at hw
  refine r_aload_n C rfl 0 rfl dX1_take_0 ?_
  refine r_gfR (k := 0) C kX1 (by decide) (Or.inl q344) (Or.inl rfl) dX1_take_1 hw (fun v1 hw => ?_)
  refine r_iload_n C rfl 1 rfl dX1_take_4 ?_
  obtain ⟨y2, rfl, hw_y2⟩ := hw
  have hw := hw_y2
  obtain ⟨hq3, hw⟩ := hw
  refine r_callV (ci := 1) (rest := []) (As := [.int i1]) C sg_X2_hasSeal rfl rfl q1035 q1036 q1037 q78 q1038 rfl (Nat.le_of_ble_eq_true rfl) dX1_take_5 rfl hq3 (Nat.zero_le _) (Nat.zero_le _) (c_X2_hasSeal G l y2 i1 h _ hw) (k_Z (fun r4 h5 hw => ?_))
  obtain ⟨k8, k9, hp10, hp11, hw⟩ := hw
  refine r_callSX (rest := []) (As := [.int (bI r4)]) C sg_X1_exists q1599 q1600 q77 q1601 rfl (Nat.le_of_ble_eq_true rfl) dX1_take_8 rfl hp10 hp11 (c_X1_exists G l k8 k9 r4 h5 X _ (st_C C) hw) (k_V (fun h7 hw => ?_))
  refine r_aload_n C rfl 0 rfl dX1_take_11 ?_
  refine r_gfR (k := 0) C kX1 (by decide) (Or.inl q344) (Or.inl rfl) dX1_take_12 hw (fun v12 hw => ?_)
  refine r_iload_n C rfl 1 rfl dX1_take_15 ?_
  obtain ⟨y13, rfl, hw_y13⟩ := hw
  have hw := hw_y13
  obtain ⟨hq14, hw⟩ := hw
  obtain ⟨k17, k18, hp19, hp20, hw⟩ := hw
  refine r_callV (ci := 1) (rest := []) (As := [.int i1]) C sg_X2_shelfOf rfl rfl q1636 q1637 q1638 q78 q1639 rfl (Nat.le_of_ble_eq_true rfl) dX1_take_16 rfl hq14 hp19 hp20 (c_X2_shelfOf G l k17 k18 y13 i1 h7 _ hw) (k_I (fun r15 h16 hw => ?_))
  refine r_iconst (v := (-1 : Int32)) C (by decide) dX1_take_19 ?_
  have hJ : V h16 ((0 + k8) + k17) ((0 + k9) + k18) 28 [(0, .ref a0), (1, .int i1)] [.int (bI (if r15 = (-1 : Int32) then false else true))] := by
    obtain ⟨k23, k24, hp25, hp26, hw⟩ := hw
    refine r_callSX (rest := []) (As := [.int (bI (if r15 = (-1 : Int32) then false else true))]) C sg_X1_free q1340 q1341 q77 q1342 rfl (Nat.le_of_ble_eq_true rfl) dX1_take_28 rfl hp25 hp26 (c_X1_free G l k23 k24 (if r15 = (-1 : Int32) then false else true) h16 X _ (st_C C) hw) (k_V (fun h22 hw => ?_))
    refine r_aload_n C rfl 0 rfl dX1_take_31 ?_
    obtain ⟨hq27, hw⟩ := hw
    obtain ⟨k30, k31, hp32, hp33, hw⟩ := hw
    refine r_callV (ci := 0) (rest := []) (As := []) C sg_X1_remember rfl rfl q1724 q1726 qs33 q77 q1727 rfl (Nat.le_of_ble_eq_true rfl) dX1_take_32 rfl hq27 hp32 hp33 (c_X1_remember G l k30 k31 a0 h22 _ hw) (k_V (fun h29 hw => ?_))
    refine r_aload_n C rfl 0 rfl dX1_take_35 ?_
    refine r_gfR (k := 0) C kX1 (by decide) (Or.inl q344) (Or.inl rfl) dX1_take_36 hw (fun v34 hw => ?_)
    refine r_iload_n C rfl 1 rfl dX1_take_39 ?_
    obtain ⟨y35, rfl, hw_y35⟩ := hw
    have hw := hw_y35
    obtain ⟨hq36, hw⟩ := hw
    obtain ⟨k39, k40, hp41, hp42, hw⟩ := hw
    refine r_callV (ci := 1) (rest := []) (As := [.int i1]) C sg_X2_take rfl rfl q2002 q1890 q1891 q78 q1892 rfl (Nat.le_of_ble_eq_true rfl) dX1_take_40 rfl hq36 hp41 hp42 (c_X2_take G l k39 k40 y35 i1 h29 _ hw) (k_I (fun r37 h38 hw => ?_))
    exact r_ireturn C dX1_take_43 hp41 hp42 ⟨_, rfl, hw⟩
  refine r_icmp_eq (tgt := 27) C (by decide) dX1_take_20 (fun hc43 => ?_) (fun hc43 => ?_)
  · have hJ44 := hJ
    try simp only [if_pos hc43] at hJ44
    refine r_iconst (v := (0 : Int32)) C (by decide) dX1_take_27 ?_
    exact r_sub C [0, 1] rfl hJ44
  · have hJ44 := hJ
    try simp only [if_neg hc43] at hJ44
    refine r_iconst (v := (1 : Int32)) C (by decide) dX1_take_23 (r_goto (tgt := 28) C (by decide) dX1_take_24 ?_)
    exact r_sub C [0, 1] rfl hJ44
def w_X1_sort (mc ms : Nat) (a0 : Nat) (i1 : Int32) (h : Hp) (X : String → Hp → Prop) (Q : Int32 → Hp → Prop) : Prop :=
  w_X1_isShelf i1 h (fun r1 h2 => ∃ k5 k6 : Nat, 0 + k5 ≤ mc ∧ 0 + k6 ≤ ms ∧ (w_X1_exists k5 k6 r1 h2 X (fun h4 => hasC h4 a0 0 ∧ (∃ k12 k13 : Nat, (0 + k5) + k12 ≤ mc ∧ (0 + k6) + k13 ≤ ms ∧ (w_X1_remember k12 k13 a0 h4 (fun h11 => gfR h11 a0 0 0 (fun v16 => nn v16 (fun y17 => hasC h11 y17 1 ∧ (∃ k21 k22 : Nat, ((0 + k5) + k12) + k21 ≤ mc ∧ ((0 + k6) + k13) + k22 ≤ ms ∧ (w_X2_sort k21 k22 y17 i1 h11 (fun r19 h20 => Q r19 h20)))))))))))
theorem sg_X1_sort : ySg yX1_sort 1 = true := by decide +kernel
theorem c_X1_sort (G : gT) (l : Launch) (mc ms : Nat) (a0 : Nat) (i1 : Int32) (h : Hp) (X : String → Hp → Prop) (Q : Int32 → Hp → Prop) (hst : l.stackTraces = false) (hw : w_X1_sort mc ms a0 i1 h X Q) : CtX G l yX1_sort (ws_ yX1_sort cX1_sort 2 (some .int)) 13 290 mc ms [.ref a0, .int i1] h (pI Q) X := by
  refine CtX.of (own := RX1) hst (by decide +kernel) rfl (show (_ : Nat) ≤ _ from Nat.le_of_ble_eq_true rfl) (fun V C => ?_)
  show V h 0 0 0 [(0, .ref a0), (1, .int i1)] []
  unfold w_X1_sort at hw
  refine r_iload_n C rfl 1 rfl dX1_sort_0 ?_
  refine r_callS (rest := []) (As := [.int i1]) C sg_X1_isShelf q1712 q1713 q77 q1714 rfl (Nat.le_of_ble_eq_true rfl) dX1_sort_1 rfl (Nat.zero_le _) (Nat.zero_le _) (c_X1_isShelf G l i1 h _ hw) (k_Z (fun r1 h2 hw => ?_))
  obtain ⟨k5, k6, hp7, hp8, hw⟩ := hw
  refine r_callSX (rest := []) (As := [.int (bI r1)]) C sg_X1_exists q1599 q1600 q77 q1601 rfl (Nat.le_of_ble_eq_true rfl) dX1_sort_4 rfl hp7 hp8 (c_X1_exists G l k5 k6 r1 h2 X _ (st_C C) hw) (k_V (fun h4 hw => ?_))
  refine r_aload_n C rfl 0 rfl dX1_sort_7 ?_
  obtain ⟨hq9, hw⟩ := hw
  obtain ⟨k12, k13, hp14, hp15, hw⟩ := hw
  refine r_callV (ci := 0) (rest := []) (As := []) C sg_X1_remember rfl rfl q1724 q1726 qs33 q77 q1727 rfl (Nat.le_of_ble_eq_true rfl) dX1_sort_8 rfl hq9 hp14 hp15 (c_X1_remember G l k12 k13 a0 h4 _ hw) (k_V (fun h11 hw => ?_))
  refine r_aload_n C rfl 0 rfl dX1_sort_11 ?_
  refine r_gfR (k := 0) C kX1 (by decide) (Or.inl q344) (Or.inl rfl) dX1_sort_12 hw (fun v16 hw => ?_)
  refine r_iload_n C rfl 1 rfl dX1_sort_15 ?_
  obtain ⟨y17, rfl, hw_y17⟩ := hw
  have hw := hw_y17
  obtain ⟨hq18, hw⟩ := hw
  obtain ⟨k21, k22, hp23, hp24, hw⟩ := hw
  refine r_callV (ci := 1) (rest := []) (As := [.int i1]) C sg_X2_sort rfl rfl q2010 q2011 q2012 q78 q2013 rfl (Nat.le_of_ble_eq_true rfl) dX1_sort_16 rfl hq18 hp23 hp24 (c_X2_sort G l k21 k22 y17 i1 h11 _ hw) (k_I (fun r19 h20 hw => ?_))
  exact r_ireturn C dX1_sort_19 hp23 hp24 ⟨_, rfl, hw⟩
def w_X1_isSetting (i0 : Int32) (i1 : Int32) (h : Hp) (Q : Bool → Hp → Prop) : Prop :=
  w_X1_isIn i0.toInt64 (0 : Int64) (1 : Int64) h (fun r1 h2 => (r1 = false → Q false h2) ∧ (r1 = true → w_X1_isIn i1.toInt64 (0 : Int64) (99 : Int64) h2 (fun r4 h5 => Q (if r4 = false then false else true) h5)))
theorem sg_X1_isSetting : ySg yX1_isSetting 2 = true := by decide +kernel
theorem c_X1_isSetting (G : gT) (l : Launch) (i0 : Int32) (i1 : Int32) (h : Hp) (Q : Bool → Hp → Prop) (hw : w_X1_isSetting i0 i1 h Q) : Ct G l yX1_isSetting (ws_ yX1_isSetting cX1_isSetting 2 (some .boolean)) 2 37 0 0 [.int i0, .int i1] h (pZ Q) := by
  refine Ct.of (own := RX1) false (by decide +kernel) rfl (show (_ : Nat) ≤ _ from Nat.le_of_ble_eq_true rfl) (fun z => by cases z) (fun V C => ?_)
  show V h 0 0 0 [(0, .int i0), (1, .int i1)] []
  unfold w_X1_isSetting at hw
  refine r_iload_n C rfl 0 rfl dX1_isSetting_0 (r_i2l C dX1_isSetting_1 (r_lconst (v := (0 : Int64)) C (by decide) dX1_isSetting_2 (r_lconst (v := (1 : Int64)) C (by decide) dX1_isSetting_3 ?_)))
  refine r_callS (rest := []) (As := [.long i0.toInt64, .long (0 : Int64), .long (1 : Int64)]) C sg_X1_isIn q399 q400 q77 q401 rfl (Nat.le_of_ble_eq_true rfl) dX1_isSetting_4 rfl (Nat.le_refl _) (Nat.le_refl _) (c_X1_isIn G l i0.toInt64 (0 : Int64) (1 : Int64) h _ hw) (k_Z (fun r1 h2 hw => ?_))
  refine r_if_eq_b (tgt := 26) C (by decide) dX1_isSetting_7 (fun hc3 => ?_) (fun hc3 => ?_)
  · have hw := hw.1 hc3
    refine r_iconst (v := (0 : Int32)) C (by decide) dX1_isSetting_26 ?_
    exact r_zreturn (x := false) C dX1_isSetting_27 (Nat.le_refl _) (Nat.le_refl _) ⟨_, rfl, hw⟩
  · have hw := hw.2 hc3
    refine r_iload_n C rfl 1 rfl dX1_isSetting_10 (r_i2l C dX1_isSetting_11 (r_lconst (v := (0 : Int64)) C (by decide) dX1_isSetting_12 (r_ldc2 (v := (99 : Int64)) C q1824 dX1_isSetting_13 ?_)))
    refine r_callS (rest := []) (As := [.long i1.toInt64, .long (0 : Int64), .long (99 : Int64)]) C sg_X1_isIn q399 q400 q77 q401 rfl (Nat.le_of_ble_eq_true rfl) dX1_isSetting_16 rfl (Nat.le_refl _) (Nat.le_refl _) (c_X1_isIn G l i1.toInt64 (0 : Int64) (99 : Int64) h2 _ hw) (k_Z (fun r4 h5 hw => ?_))
    have hJ : V h5 0 0 27 [] [.int (bI (if r4 = false then false else true))] := by
      exact r_zreturn (x := (if r4 = false then false else true)) C dX1_isSetting_27 (Nat.le_refl _) (Nat.le_refl _) ⟨_, rfl, hw⟩
    refine r_if_eq_b (tgt := 26) C (by decide) dX1_isSetting_19 (fun hc6 => ?_) (fun hc6 => ?_)
    · have hJ7 := hJ
      try simp only [if_pos hc6] at hJ7
      refine r_iconst (v := (0 : Int32)) C (by decide) dX1_isSetting_26 ?_
      exact r_sub C [] rfl hJ7
    · have hJ7 := hJ
      try simp only [if_neg (show ¬ r4 = false from by rw [hc6]; decide)] at hJ7
      refine r_iconst (v := (1 : Int32)) C (by decide) dX1_isSetting_22 (r_goto (tgt := 27) C (by decide) dX1_isSetting_23 ?_)
      exact r_sub C [] rfl hJ7
def w_X1_set (mc ms : Nat) (a0 : Nat) (i1 : Int32) (i2 : Int32) (h : Hp) (X : String → Hp → Prop) (Q : Int32 → Hp → Prop) : Prop :=
  w_X1_isSetting i1 i2 h (fun r1 h2 => ∃ k5 k6 : Nat, 0 + k5 ≤ mc ∧ 0 + k6 ≤ ms ∧ (w_X1_check k5 k6 r1 h2 X (fun h4 => hasC h4 a0 0 ∧ (∃ k12 k13 : Nat, (0 + k5) + k12 ≤ mc ∧ (0 + k6) + k13 ≤ ms ∧ (w_X1_remember k12 k13 a0 h4 (fun h11 => gfR h11 a0 0 0 (fun v16 => nn v16 (fun y17 => gfR h11 y17 1 4 (fun v18 => nn v18 (fun y19 => rdI h11 y19 i1 (fun v20 => gfR h11 a0 0 0 (fun v21 => nn v21 (fun y22 => gfR h11 y22 1 4 (fun v23 => nn v23 (fun y25 => wrI h11 y25 i1 i2 (fun h24 => Q v20 h24))))))))))))))))
theorem sg_X1_set : ySg yX1_set 2 = true := by decide +kernel
theorem c_X1_set (G : gT) (l : Launch) (mc ms : Nat) (a0 : Nat) (i1 : Int32) (i2 : Int32) (h : Hp) (X : String → Hp → Prop) (Q : Int32 → Hp → Prop) (hst : l.stackTraces = false) (hw : w_X1_set mc ms a0 i1 i2 h X Q) : CtX G l yX1_set (ws_ yX1_set cX1_set 4 (some .int)) 10 258 mc ms [.ref a0, .int i1, .int i2] h (pI Q) X := by
  refine CtX.of (own := RX1) hst (by decide +kernel) rfl (show (_ : Nat) ≤ _ from Nat.le_of_ble_eq_true rfl) (fun V C => ?_)
  show V h 0 0 0 [(0, .ref a0), (1, .int i1), (2, .int i2)] []
  unfold w_X1_set at hw
  refine r_iload_n C rfl 1 rfl dX1_set_0 (r_iload_n C rfl 2 rfl dX1_set_1 ?_)
  refine r_callS (rest := []) (As := [.int i1, .int i2]) C sg_X1_isSetting q2036 q2037 q77 q2038 rfl (Nat.le_of_ble_eq_true rfl) dX1_set_2 rfl (Nat.zero_le _) (Nat.zero_le _) (c_X1_isSetting G l i1 i2 h _ hw) (k_Z (fun r1 h2 hw => ?_))
  obtain ⟨k5, k6, hp7, hp8, hw⟩ := hw
  refine r_callSX (rest := []) (As := [.int (bI r1)]) C sg_X1_check q1332 q1333 q77 q1334 rfl (Nat.le_of_ble_eq_true rfl) dX1_set_5 rfl hp7 hp8 (c_X1_check G l k5 k6 r1 h2 X _ (st_C C) hw) (k_V (fun h4 hw => ?_))
  refine r_aload_n C rfl 0 rfl dX1_set_8 ?_
  obtain ⟨hq9, hw⟩ := hw
  obtain ⟨k12, k13, hp14, hp15, hw⟩ := hw
  refine r_callV (ci := 0) (rest := []) (As := []) C sg_X1_remember rfl rfl q1724 q1726 qs33 q77 q1727 rfl (Nat.le_of_ble_eq_true rfl) dX1_set_9 rfl hq9 hp14 hp15 (c_X1_remember G l k12 k13 a0 h4 _ hw) (k_V (fun h11 hw => ?_))
  refine r_aload_n C rfl 0 rfl dX1_set_12 ?_
  refine r_gfR (k := 0) C kX1 (by decide) (Or.inl q344) (Or.inl rfl) dX1_set_13 hw (fun v16 hw => ?_)
  obtain ⟨y17, rfl, hw_y17⟩ := hw
  have hw := hw_y17
  refine r_gfR (k := 4) C kX2 (by decide) (Or.inr ⟨_, (List.mem_of_getElem? (i := 8) rfl)⟩) (Or.inl rfl) dX1_set_16 hw (fun v18 hw => ?_)
  refine r_iload_n C rfl 1 rfl dX1_set_19 ?_
  obtain ⟨y19, rfl, hw_y19⟩ := hw
  have hw := hw_y19
  refine r_iaload C dX1_set_20 hw (fun v20 hw => ?_)
  refine r_istore_n (L' := [(3, .int v20), (0, .ref a0), (1, .int i1), (2, .int i2)]) C rfl (by decide) rfl dX1_set_21 (r_aload_n C rfl 1 rfl dX1_set_22 ?_)
  refine r_gfR (k := 0) C kX1 (by decide) (Or.inl q344) (Or.inl rfl) dX1_set_23 hw (fun v21 hw => ?_)
  obtain ⟨y22, rfl, hw_y22⟩ := hw
  have hw := hw_y22
  refine r_gfR (k := 4) C kX2 (by decide) (Or.inr ⟨_, (List.mem_of_getElem? (i := 8) rfl)⟩) (Or.inl rfl) dX1_set_26 hw (fun v23 hw => ?_)
  refine r_iload_n C rfl 2 rfl dX1_set_29 (r_iload_n C rfl 3 rfl dX1_set_30 ?_)
  obtain ⟨y25, rfl, hw_y25⟩ := hw
  have hw := hw_y25
  refine r_iastore C dX1_set_31 hw (fun h24 hw => ?_)
  refine r_iload_n C rfl 0 rfl dX1_set_32 ?_
  exact r_ireturn C dX1_set_33 hp14 hp15 ⟨_, rfl, hw⟩
def w_X1_undo (mc ms : Nat) (a0 : Nat) (h : Hp) (X : String → Hp → Prop) (Q : Int32 → Hp → Prop) : Prop :=
  gfR h a0 0 1 (fun v1 => nn v1 (fun y2 => hasC h y2 11 ∧ (wj_J9_isEmpty y2 h (fun r4 h5 => ∃ k8 k9 : Nat, 0 + k8 ≤ mc ∧ 0 + k9 ≤ ms ∧ (w_X1_free k8 k9 (if r4 = true then false else true) h5 X (fun h7 => gfR h7 a0 0 1 (fun v12 => nn v12 (fun y13 => hasC h7 y13 11 ∧ (wj_J9_pollLast y13 h7 (fun r15 h16 => (∀ z17 : Nat, r15 = some z17 → hasC h16 z17 1) ∧ (pf h16 a0 0 0 (va_rf r15) (fun h19 => gfR h19 a0 0 1 (fun v20 => nn v20 (fun y21 => hasC h19 y21 11 ∧ (wj_J9_size y21 h19 (fun r23 h24 => Q r23 h24))))))))))))))))
theorem sg_X1_undo : ySg yX1_undo 0 = true := by decide +kernel
theorem c_X1_undo (G : gT) (l : Launch) (mc ms : Nat) (a0 : Nat) (h : Hp) (X : String → Hp → Prop) (Q : Int32 → Hp → Prop) (hst : l.stackTraces = false) (hw : w_X1_undo mc ms a0 h X Q) : CtX G l yX1_undo (ws_ yX1_undo cX1_undo 1 (some .int)) 7 110 mc ms [.ref a0] h (pI Q) X := by
  refine CtX.of (own := RX1) hst (by decide +kernel) rfl (show (_ : Nat) ≤ _ from Nat.le_of_ble_eq_true rfl) (fun V C => ?_)
  show V h 0 0 0 [(0, .ref a0)] []
  unfold w_X1_undo at hw
  refine r_aload_n C rfl 0 rfl dX1_undo_0 ?_
  refine r_gfR (k := 1) C kX1 (by decide) (Or.inl q345) (Or.inl rfl) dX1_undo_1 hw (fun v1 hw => ?_)
  obtain ⟨y2, rfl, hw_y2⟩ := hw
  have hw := hw_y2
  obtain ⟨hq3, hw⟩ := hw
  refine r_callV (ci := 11) (rest := []) (As := []) C sg_J9_isEmpty rfl rfl q2046 q2047 q2048 q89 q2049 rfl (Nat.le_of_ble_eq_true rfl) dX1_undo_4 rfl hq3 (Nat.zero_le _) (Nat.zero_le _) (cj_J9_isEmpty G l y2 h _ hw) (k_Z (fun r4 h5 hw => ?_))
  have hJ : V h5 0 0 15 [(0, .ref a0)] [.int (bI (if r4 = true then false else true))] := by
    obtain ⟨k8, k9, hp10, hp11, hw⟩ := hw
    refine r_callSX (rest := []) (As := [.int (bI (if r4 = true then false else true))]) C sg_X1_free q1340 q1341 q77 q1342 rfl (Nat.le_of_ble_eq_true rfl) dX1_undo_15 rfl hp10 hp11 (c_X1_free G l k8 k9 (if r4 = true then false else true) h5 X _ (st_C C) hw) (k_V (fun h7 hw => ?_))
    refine r_aload_n C rfl 0 rfl dX1_undo_18 (r_aload_n C rfl 0 rfl dX1_undo_19 ?_)
    refine r_gfR (k := 1) C kX1 (by decide) (Or.inl q345) (Or.inl rfl) dX1_undo_20 hw (fun v12 hw => ?_)
    obtain ⟨y13, rfl, hw_y13⟩ := hw
    have hw := hw_y13
    obtain ⟨hq14, hw⟩ := hw
    refine r_callV (ci := 11) (rest := [.ref a0]) (As := []) C sg_J9_pollLast rfl rfl q2050 q2051 q2052 q89 q2053 rfl (Nat.le_of_ble_eq_true rfl) dX1_undo_23 rfl hq14 hp10 hp11 (cj_J9_pollLast G l y13 h7 _ hw) (k_R (fun r15 h16 hw => ?_))
    obtain ⟨e18, hw⟩ := hw
    refine r_cast (x := r15) C (ci := 1) rfl q130 dX1_undo_26 e18 ?_
    refine r_pf (k := 0) (v := va_rf r15) C kX1 (by decide) (Or.inl q344) (Or.inl rfl) (Or.inl rfl) (n_rfO _ _) (f_rfO _ _) dX1_undo_29 hw (fun h19 hw => ?_)
    refine r_aload_n C rfl 0 rfl dX1_undo_32 ?_
    refine r_gfR (k := 1) C kX1 (by decide) (Or.inl q345) (Or.inl rfl) dX1_undo_33 hw (fun v20 hw => ?_)
    obtain ⟨y21, rfl, hw_y21⟩ := hw
    have hw := hw_y21
    obtain ⟨hq22, hw⟩ := hw
    refine r_callV (ci := 11) (rest := []) (As := []) C sg_J9_size rfl rfl q1728 q442 q2652 q89 q443 rfl (Nat.le_of_ble_eq_true rfl) dX1_undo_36 rfl hq22 hp10 hp11 (cj_J9_size G l y21 h19 _ hw) (k_I (fun r23 h24 hw => ?_))
    exact r_ireturn C dX1_undo_39 hp10 hp11 ⟨_, rfl, hw⟩
  refine r_if_ne_b (tgt := 14) C (by decide) dX1_undo_7 (fun hc25 => ?_) (fun hc25 => ?_)
  · have hJ26 := hJ
    try simp only [if_pos hc25] at hJ26
    refine r_iconst (v := (0 : Int32)) C (by decide) dX1_undo_14 ?_
    exact r_sub C [0] rfl hJ26
  · have hJ26 := hJ
    try simp only [if_neg (show ¬ r4 = true from by rw [hc25]; decide)] at hJ26
    refine r_iconst (v := (1 : Int32)) C (by decide) dX1_undo_10 (r_goto (tgt := 15) C (by decide) dX1_undo_11 ?_)
    exact r_sub C [0] rfl hJ26
def B_X1_older_27 (mc ms : Nat) (X : String → Hp → Prop) (Q : Int32 → Hp → Prop) (h : Hp) (c : Nat) (n : Nat) (x0 : Nat) (x1 : Int32) (x2 : Int32) (s0 : Bool) : Prop :=
  ∃ k3 k4 : Nat, c + k3 ≤ mc ∧ n + k4 ≤ ms ∧ (w_X1_exists k3 k4 s0 h X (fun h2 => gfR h2 x0 0 0 (fun v7 => nn v7 (fun y8 => hasC h2 y8 1 ∧ (∃ k12 k13 : Nat, (c + k3) + k12 ≤ mc ∧ (n + k4) + k13 ≤ ms ∧ (w_X2_possible k12 k13 y8 x1 h2 (fun r10 h11 => gfR h11 x0 0 0 (fun v16 => nn v16 (fun y17 => hasC h11 y17 1 ∧ (∃ k21 k22 : Nat, ((c + k3) + k12) + k21 ≤ mc ∧ ((n + k4) + k13) + k22 ≤ ms ∧ (w_X2_possible k21 k22 y17 x2 h11 (fun r19 h20 => nn r10 (fun y25 => hasC h20 y25 15 ∧ (wj_J30_isEmpty y25 h20 (fun r27 h28 => (r27 = true → Q (-1 : Int32) h28) ∧ (r27 = false → nn r19 (fun y30 => hasC h28 y30 15 ∧ (wj_J30_isEmpty y30 h28 (fun r32 h33 => (r32 = false → w_X1_last y25 h33 (fun r35 h36 => w_X1_first y30 h36 (fun r37 h38 => (r37 ≤ r35 → w_X1_last y30 h38 (fun r40 h41 => w_X1_first y25 h41 (fun r42 h43 => Q (if r42 ≤ r40 then (-1 : Int32) else x2) h43))) ∧ (¬ r37 ≤ r35 → Q x1 h38)))) ∧ (r32 = true → Q (-1 : Int32) h33))))))))))))))))))))
def w_X1_older (mc ms : Nat) (a0 : Nat) (i1 : Int32) (i2 : Int32) (h : Hp) (X : String → Hp → Prop) (Q : Int32 → Hp → Prop) : Prop :=
  gfR h a0 0 0 (fun v46 => nn v46 (fun y47 => hasC h y47 1 ∧ (w_X2_hasSeal y47 i1 h (fun r49 h50 => (r49 = false → B_X1_older_27 mc ms X Q h50 0 0 a0 i1 i2 false) ∧ (r49 = true → gfR h50 a0 0 0 (fun v52 => nn v52 (fun y53 => hasC h50 y53 1 ∧ (w_X2_hasSeal y53 i2 h50 (fun r55 h56 => B_X1_older_27 mc ms X Q h56 0 0 a0 i1 i2 (if r55 = false then false else true))))))))))
theorem b_X1_older_27 {G : gT} {l : Launch} {V : Hp → Nat → Nat → Nat → List (Nat × Value) → List Value → Prop} {mc ms : Nat} {X : String → Hp → Prop} {Q : Int32 → Hp → Prop} (C : Cx G l V cX1_older 5 RX1 9 191 mc ms (pI Q) (some X) (some .int) [] false) (h : Hp) (c : Nat) (n : Nat) (x0 : Nat) (x1 : Int32) (x2 : Int32) (s0 : Bool) (b1 : c ≤ mc) (b2 : n ≤ ms) (hw : B_X1_older_27 mc ms X Q h c n x0 x1 x2 s0) : V h c n 27 [(0, .ref x0), (1, .int x1), (2, .int x2)] [.int (bI s0)] := by
  unfold B_X1_older_27 at hw
  obtain ⟨k3, k4, hp5, hp6, hw⟩ := hw
  refine r_callSX (rest := []) (As := [.int (bI s0)]) C sg_X1_exists q1599 q1600 q77 q1601 rfl (Nat.le_of_ble_eq_true rfl) dX1_older_27 rfl hp5 hp6 (c_X1_exists G l k3 k4 s0 h X _ (st_C C) hw) (k_V (fun h2 hw => ?_))
  refine r_aload_n C rfl 0 rfl dX1_older_30 ?_
  refine r_gfR (k := 0) C kX1 (by decide) (Or.inl q344) (Or.inl rfl) dX1_older_31 hw (fun v7 hw => ?_)
  refine r_iload_n C rfl 1 rfl dX1_older_34 ?_
  obtain ⟨y8, rfl, hw_y8⟩ := hw
  have hw := hw_y8
  obtain ⟨hq9, hw⟩ := hw
  obtain ⟨k12, k13, hp14, hp15, hw⟩ := hw
  refine r_callV (ci := 1) (rest := []) (As := [.int x1]) C sg_X2_possible rfl rfl q1652 q1425 q1426 q78 q1427 rfl (Nat.le_of_ble_eq_true rfl) dX1_older_35 rfl hq9 hp14 hp15 (c_X2_possible G l k12 k13 y8 x1 h2 _ hw) (k_R (fun r10 h11 hw => ?_))
  refine r_astore_nO (x := r10) (L' := [(3, va_rf r10), (0, .ref x0), (1, .int x1), (2, .int x2)]) C rfl (by decide) rfl dX1_older_38 (r_aload_n C rfl 1 rfl dX1_older_39 ?_)
  refine r_gfR (k := 0) C kX1 (by decide) (Or.inl q344) (Or.inl rfl) dX1_older_40 hw (fun v16 hw => ?_)
  refine r_iload_n C rfl 3 rfl dX1_older_43 ?_
  obtain ⟨y17, rfl, hw_y17⟩ := hw
  have hw := hw_y17
  obtain ⟨hq18, hw⟩ := hw
  obtain ⟨k21, k22, hp23, hp24, hw⟩ := hw
  refine r_callV (ci := 1) (rest := []) (As := [.int x2]) C sg_X2_possible rfl rfl q1652 q1425 q1426 q78 q1427 rfl (Nat.le_of_ble_eq_true rfl) dX1_older_44 rfl hq18 hp23 hp24 (c_X2_possible G l k21 k22 y17 x2 h11 _ hw) (k_R (fun r19 h20 hw => ?_))
  refine r_astoreO (x := r19) (L' := [(4, va_rf r19), (3, va_rf r10), (0, .ref x0), (1, .int x1), (2, .int x2)]) C (by decide) (by rcases r10 with _ | _ <;> rfl) dX1_older_47 (r_aload_nO C rfl 1 rfl dX1_older_49 ?_)
  obtain ⟨y25, rfl, hw_y25⟩ := hw
  have hw := hw_y25
  obtain ⟨hq26, hw⟩ := hw
  refine r_callV (ci := 15) (rest := []) (As := []) C sg_J30_isEmpty rfl rfl q1657 q1511 q1512 q116 q1513 rfl (Nat.le_of_ble_eq_true rfl) dX1_older_50 rfl hq26 hp23 hp24 (cj_J30_isEmpty G l y25 h20 _ hw) (k_Z (fun r27 h28 hw => ?_))
  refine r_if_ne_b (tgt := 64) C (by decide) dX1_older_53 (fun hc29 => ?_) (fun hc29 => ?_)
  · have hw := hw.1 hc29
    refine r_iconst (v := (-1 : Int32)) C (by decide) dX1_older_64 ?_
    exact r_ireturn C dX1_older_65 hp23 hp24 ⟨_, rfl, hw⟩
  · have hw := hw.2 hc29
    refine r_aloadO C 0 rfl dX1_older_56 ?_
    obtain ⟨y30, rfl, hw_y30⟩ := hw
    have hw := hw_y30
    obtain ⟨hq31, hw⟩ := hw
    refine r_callV (ci := 15) (rest := []) (As := []) C sg_J30_isEmpty rfl rfl q1657 q1511 q1512 q116 q1513 rfl (Nat.le_of_ble_eq_true rfl) dX1_older_58 rfl hq31 hp23 hp24 (cj_J30_isEmpty G l y30 h28 _ hw) (k_Z (fun r32 h33 hw => ?_))
    refine r_if_eq_b (tgt := 66) C (by decide) dX1_older_61 (fun hc34 => ?_) (fun hc34 => ?_)
    · have hw := hw.1 hc34
      refine r_aload_n C rfl 1 rfl dX1_older_66 ?_
      refine r_callS (rest := []) (As := [.ref y25]) C sg_X1_last q1654 q1655 q77 q1656 rfl (Nat.le_of_ble_eq_true rfl) dX1_older_67 rfl hp23 hp24 (c_X1_last G l y25 h33 _ hw) (k_I (fun r35 h36 hw => ?_))
      refine r_aload C 0 rfl dX1_older_70 ?_
      refine r_callS (rest := [.int r35]) (As := [.ref y30]) C sg_X1_first q1653 q1561 q77 q1562 rfl (Nat.le_of_ble_eq_true rfl) dX1_older_72 rfl hp23 hp24 (c_X1_first G l y30 h36 _ hw) (k_I (fun r37 h38 hw => ?_))
      refine r_icmp_ge (tgt := 82) C (by decide) dX1_older_75 (fun hc39 => ?_) (fun hc39 => ?_)
      · have hw := hw.1 hc39
        refine r_aload C 0 rfl dX1_older_82 ?_
        refine r_callS (rest := []) (As := [.ref y30]) C sg_X1_last q1654 q1655 q77 q1656 rfl (Nat.le_of_ble_eq_true rfl) dX1_older_84 rfl hp23 hp24 (c_X1_last G l y30 h38 _ hw) (k_I (fun r40 h41 hw => ?_))
        refine r_aload_n C rfl 1 rfl dX1_older_87 ?_
        refine r_callS (rest := [.int r40]) (As := [.ref y25]) C sg_X1_first q1653 q1561 q77 q1562 rfl (Nat.le_of_ble_eq_true rfl) dX1_older_88 rfl hp23 hp24 (c_X1_first G l y25 h41 _ hw) (k_I (fun r42 h43 hw => ?_))
        have hJ : V h43 (((c + k3) + k12) + k21) (((n + k4) + k13) + k22) 99 [] [.int (if r42 ≤ r40 then (-1 : Int32) else x2)] := by
          exact r_ireturn C dX1_older_99 hp23 hp24 ⟨_, rfl, hw⟩
        refine r_icmp_ge (tgt := 98) C (by decide) dX1_older_91 (fun hc44 => ?_) (fun hc44 => ?_)
        · have hJ45 := hJ
          try simp only [if_pos hc44] at hJ45
          refine r_iconst (v := (-1 : Int32)) C (by decide) dX1_older_98 ?_
          exact r_sub C [] rfl hJ45
        · have hJ45 := hJ
          try simp only [if_neg hc44] at hJ45
          refine r_iload_n C rfl 4 rfl dX1_older_94 (r_goto (tgt := 99) C (by decide) dX1_older_95 ?_)
          exact r_sub C [] rfl hJ45
      · have hw := hw.2 hc39
        refine r_iload_n C rfl 3 rfl dX1_older_78 (r_goto (tgt := 99) C (by decide) dX1_older_79 ?_)
        exact r_ireturn C dX1_older_99 hp23 hp24 ⟨_, rfl, hw⟩
    · have hw := hw.2 hc34
      refine r_iconst (v := (-1 : Int32)) C (by decide) dX1_older_64 ?_
      exact r_ireturn C dX1_older_65 hp23 hp24 ⟨_, rfl, hw⟩
theorem sg_X1_older : ySg yX1_older 2 = true := by decide +kernel
theorem c_X1_older (G : gT) (l : Launch) (mc ms : Nat) (a0 : Nat) (i1 : Int32) (i2 : Int32) (h : Hp) (X : String → Hp → Prop) (Q : Int32 → Hp → Prop) (hst : l.stackTraces = false) (hw : w_X1_older mc ms a0 i1 i2 h X Q) : CtX G l yX1_older (ws_ yX1_older cX1_older 5 (some .int)) 9 191 mc ms [.ref a0, .int i1, .int i2] h (pI Q) X := by
  refine CtX.of (own := RX1) hst (by decide +kernel) rfl (show (_ : Nat) ≤ _ from Nat.le_of_ble_eq_true rfl) (fun V C => ?_)
  show V h 0 0 0 [(0, .ref a0), (1, .int i1), (2, .int i2)] []
  unfold w_X1_older at hw
  refine r_aload_n C rfl 0 rfl dX1_older_0 ?_
  refine r_gfR (k := 0) C kX1 (by decide) (Or.inl q344) (Or.inl rfl) dX1_older_1 hw (fun v46 hw => ?_)
  refine r_iload_n C rfl 1 rfl dX1_older_4 ?_
  obtain ⟨y47, rfl, hw_y47⟩ := hw
  have hw := hw_y47
  obtain ⟨hq48, hw⟩ := hw
  refine r_callV (ci := 1) (rest := []) (As := [.int i1]) C sg_X2_hasSeal rfl rfl q1035 q1036 q1037 q78 q1038 rfl (Nat.le_of_ble_eq_true rfl) dX1_older_5 rfl hq48 (Nat.zero_le _) (Nat.zero_le _) (c_X2_hasSeal G l y47 i1 h _ hw) (k_Z (fun r49 h50 hw => ?_))
  refine r_if_eq_b (tgt := 26) C (by decide) dX1_older_8 (fun hc51 => ?_) (fun hc51 => ?_)
  · have hw := hw.1 hc51
    refine r_iconst (v := (0 : Int32)) C (by decide) dX1_older_26 ?_
    exact r_sub C [0, 1, 2] rfl (b_X1_older_27 C _ _ _ _ _ _ _ (Nat.zero_le _) (Nat.zero_le _) hw)
  · have hw := hw.2 hc51
    refine r_aload_n C rfl 0 rfl dX1_older_11 ?_
    refine r_gfR (k := 0) C kX1 (by decide) (Or.inl q344) (Or.inl rfl) dX1_older_12 hw (fun v52 hw => ?_)
    refine r_iload_n C rfl 2 rfl dX1_older_15 ?_
    obtain ⟨y53, rfl, hw_y53⟩ := hw
    have hw := hw_y53
    obtain ⟨hq54, hw⟩ := hw
    refine r_callV (ci := 1) (rest := []) (As := [.int i2]) C sg_X2_hasSeal rfl rfl q1035 q1036 q1037 q78 q1038 rfl (Nat.le_of_ble_eq_true rfl) dX1_older_16 rfl hq54 (Nat.zero_le _) (Nat.zero_le _) (c_X2_hasSeal G l y53 i2 h50 _ hw) (k_Z (fun r55 h56 hw => ?_))
    have hJ : V h56 0 0 27 [(0, .ref a0), (1, .int i1), (2, .int i2)] [.int (bI (if r55 = false then false else true))] := by
      exact r_sub C [0, 1, 2] rfl (b_X1_older_27 C _ _ _ _ _ _ _ (Nat.zero_le _) (Nat.zero_le _) hw)
    refine r_if_eq_b (tgt := 26) C (by decide) dX1_older_19 (fun hc57 => ?_) (fun hc57 => ?_)
    · have hJ58 := hJ
      try simp only [if_pos hc57] at hJ58
      refine r_iconst (v := (0 : Int32)) C (by decide) dX1_older_26 ?_
      exact r_sub C [0, 1, 2] rfl hJ58
    · have hJ58 := hJ
      try simp only [if_neg (show ¬ r55 = false from by rw [hc57]; decide)] at hJ58
      refine r_iconst (v := (1 : Int32)) C (by decide) dX1_older_22 (r_goto (tgt := 27) C (by decide) dX1_older_23 ?_)
      exact r_sub C [0, 1, 2] rfl hJ58
def w_X1_decides (mc ms : Nat) (a0 : Nat) (i1 : Int32) (h : Hp) (X : String → Hp → Prop) (Q : Int32 → Hp → Prop) : Prop :=
  w_X1_isCharter i1 h (fun r1 h2 => ∃ k5 k6 : Nat, 0 + k5 ≤ mc ∧ 0 + k6 ≤ ms ∧ (w_X1_exists k5 k6 r1 h2 X (fun h4 => gfR h4 a0 0 0 (fun v9 => nn v9 (fun y10 => hasC h4 y10 1 ∧ (∃ k14 k15 : Nat, (0 + k5) + k14 ≤ mc ∧ (0 + k6) + k15 ≤ ms ∧ (w_X2_decides k14 k15 y10 i1 h4 (fun r12 h13 => Q r12 h13))))))))
theorem sg_X1_decides : ySg yX1_decides 1 = true := by decide +kernel
theorem c_X1_decides (G : gT) (l : Launch) (mc ms : Nat) (a0 : Nat) (i1 : Int32) (h : Hp) (X : String → Hp → Prop) (Q : Int32 → Hp → Prop) (hst : l.stackTraces = false) (hw : w_X1_decides mc ms a0 i1 h X Q) : CtX G l yX1_decides (ws_ yX1_decides cX1_decides 2 (some .int)) 12 264 mc ms [.ref a0, .int i1] h (pI Q) X := by
  refine CtX.of (own := RX1) hst (by decide +kernel) rfl (show (_ : Nat) ≤ _ from Nat.le_of_ble_eq_true rfl) (fun V C => ?_)
  show V h 0 0 0 [(0, .ref a0), (1, .int i1)] []
  unfold w_X1_decides at hw
  refine r_iload_n C rfl 1 rfl dX1_decides_0 ?_
  refine r_callS (rest := []) (As := [.int i1]) C sg_X1_isCharter q1700 q1701 q77 q1702 rfl (Nat.le_of_ble_eq_true rfl) dX1_decides_1 rfl (Nat.zero_le _) (Nat.zero_le _) (c_X1_isCharter G l i1 h _ hw) (k_Z (fun r1 h2 hw => ?_))
  obtain ⟨k5, k6, hp7, hp8, hw⟩ := hw
  refine r_callSX (rest := []) (As := [.int (bI r1)]) C sg_X1_exists q1599 q1600 q77 q1601 rfl (Nat.le_of_ble_eq_true rfl) dX1_decides_4 rfl hp7 hp8 (c_X1_exists G l k5 k6 r1 h2 X _ (st_C C) hw) (k_V (fun h4 hw => ?_))
  refine r_aload_n C rfl 0 rfl dX1_decides_7 ?_
  refine r_gfR (k := 0) C kX1 (by decide) (Or.inl q344) (Or.inl rfl) dX1_decides_8 hw (fun v9 hw => ?_)
  refine r_iload_n C rfl 1 rfl dX1_decides_11 ?_
  obtain ⟨y10, rfl, hw_y10⟩ := hw
  have hw := hw_y10
  obtain ⟨hq11, hw⟩ := hw
  obtain ⟨k14, k15, hp16, hp17, hw⟩ := hw
  refine r_callV (ci := 1) (rest := []) (As := [.int i1]) C sg_X2_decides rfl rfl q2071 q2072 q2073 q78 q2074 rfl (Nat.le_of_ble_eq_true rfl) dX1_decides_12 rfl hq11 hp16 hp17 (c_X2_decides G l k14 k15 y10 i1 h4 _ hw) (k_I (fun r12 h13 hw => ?_))
  exact r_ireturn C dX1_decides_15 hp16 hp17 ⟨_, rfl, hw⟩
def w_X1_ifCracked (mc ms : Nat) (a0 : Nat) (i1 : Int32) (i2 : Int32) (h : Hp) (X : String → Hp → Prop) (Q : Int32 → Hp → Prop) : Prop :=
  gfR h a0 0 0 (fun v1 => nn v1 (fun y2 => hasC h y2 1 ∧ (w_X2_hasDie y2 i1 h (fun r4 h5 => ∃ k8 k9 : Nat, 0 + k8 ≤ mc ∧ 0 + k9 ≤ ms ∧ (w_X1_exists k8 k9 r4 h5 X (fun h7 => w_X1_isYear i2 h7 (fun r12 h13 => ∃ k16 k17 : Nat, (0 + k8) + k16 ≤ mc ∧ (0 + k9) + k17 ≤ ms ∧ (w_X1_check k16 k17 r12 h13 X (fun h15 => gfR h15 a0 0 0 (fun v20 => nn v20 (fun y21 => gfR h15 y21 1 1 (fun v22 => nn v22 (fun y23 => hasC h15 y23 8 ∧ (wj_J2_get y23 i1 h15 (fun r25 h26 => (∀ z27 : Nat, r25 = some z27 → hasC h26 z27 4) ∧ (nn r25 (fun y29 => hasC h26 y29 4 ∧ (∃ k33 k34 : Nat, ((0 + k8) + k16) + k33 ≤ mc ∧ ((0 + k9) + k17) + k34 ≤ ms ∧ (w_X5_canCrack k33 k34 y29 i2 h26 (fun r31 h32 => ∃ k39 k40 : Nat, (((0 + k8) + k16) + k33) + k39 ≤ mc ∧ (((0 + k9) + k17) + k34) + k40 ≤ ms ∧ (w_X1_free k39 k40 r31 h32 X (fun h38 => gfR h38 a0 0 0 (fun v43 => nn v43 (fun y44 => hasC h38 y44 1 ∧ (∃ k48 k49 : Nat, ((((0 + k8) + k16) + k33) + k39) + k48 ≤ mc ∧ ((((0 + k9) + k17) + k34) + k40) + k49 ≤ ms ∧ (w_X2_copy k48 k49 y44 h38 (fun r46 h47 => nn r46 (fun y52 => hasC h47 y52 1 ∧ (∃ k56 k57 : Nat, (((((0 + k8) + k16) + k33) + k39) + k48) + k56 ≤ mc ∧ (((((0 + k9) + k17) + k34) + k40) + k49) + k57 ≤ ms ∧ (w_X2_crack k56 k57 y52 i1 i2 h47 (fun r54 h55 => hasC h55 y52 1 ∧ (∃ k63 k64 : Nat, ((((((0 + k8) + k16) + k33) + k39) + k48) + k56) + k63 ≤ mc ∧ ((((((0 + k9) + k17) + k34) + k40) + k49) + k57) + k64 ≤ ms ∧ (w_X2_many k63 k64 y52 (-1 : Int32) h55 (fun r61 h62 => gfR h62 a0 0 0 (fun v67 => nn v67 (fun y68 => hasC h62 y68 1 ∧ (∃ k72 k73 : Nat, (((((((0 + k8) + k16) + k33) + k39) + k48) + k56) + k63) + k72 ≤ mc ∧ (((((((0 + k9) + k17) + k34) + k40) + k49) + k57) + k64) + k73 ≤ ms ∧ (w_X2_many k72 k73 y68 (-1 : Int32) h62 (fun r70 h71 => Q (r61 - r70) h71)))))))))))))))))))))))))))))))))))))))
theorem sg_X1_ifCracked : ySg yX1_ifCracked 2 = true := by decide +kernel
theorem c_X1_ifCracked (G : gT) (l : Launch) (mc ms : Nat) (a0 : Nat) (i1 : Int32) (i2 : Int32) (h : Hp) (X : String → Hp → Prop) (Q : Int32 → Hp → Prop) (hst : l.stackTraces = false) (hw : w_X1_ifCracked mc ms a0 i1 i2 h X Q) : CtX G l yX1_ifCracked (ws_ yX1_ifCracked cX1_ifCracked 4 (some .int)) 13 288 mc ms [.ref a0, .int i1, .int i2] h (pI Q) X := by
  refine CtX.of (own := RX1) hst (by decide +kernel) rfl (show (_ : Nat) ≤ _ from Nat.le_of_ble_eq_true rfl) (fun V C => ?_)
  show V h 0 0 0 [(0, .ref a0), (1, .int i1), (2, .int i2)] []
  unfold w_X1_ifCracked at hw
  refine r_aload_n C rfl 0 rfl dX1_ifCracked_0 ?_
  refine r_gfR (k := 0) C kX1 (by decide) (Or.inl q344) (Or.inl rfl) dX1_ifCracked_1 hw (fun v1 hw => ?_)
  refine r_iload_n C rfl 1 rfl dX1_ifCracked_4 ?_
  obtain ⟨y2, rfl, hw_y2⟩ := hw
  have hw := hw_y2
  obtain ⟨hq3, hw⟩ := hw
  refine r_callV (ci := 1) (rest := []) (As := [.int i1]) C sg_X2_hasDie rfl rfl q881 q882 q883 q78 q884 rfl (Nat.le_of_ble_eq_true rfl) dX1_ifCracked_5 rfl hq3 (Nat.zero_le _) (Nat.zero_le _) (c_X2_hasDie G l y2 i1 h _ hw) (k_Z (fun r4 h5 hw => ?_))
  obtain ⟨k8, k9, hp10, hp11, hw⟩ := hw
  refine r_callSX (rest := []) (As := [.int (bI r4)]) C sg_X1_exists q1599 q1600 q77 q1601 rfl (Nat.le_of_ble_eq_true rfl) dX1_ifCracked_8 rfl hp10 hp11 (c_X1_exists G l k8 k9 r4 h5 X _ (st_C C) hw) (k_V (fun h7 hw => ?_))
  refine r_iload_n C rfl 2 rfl dX1_ifCracked_11 ?_
  refine r_callS (rest := []) (As := [.int i2]) C sg_X1_isYear q836 q837 q77 q838 rfl (Nat.le_of_ble_eq_true rfl) dX1_ifCracked_12 rfl hp10 hp11 (c_X1_isYear G l i2 h7 _ hw) (k_Z (fun r12 h13 hw => ?_))
  obtain ⟨k16, k17, hp18, hp19, hw⟩ := hw
  refine r_callSX (rest := []) (As := [.int (bI r12)]) C sg_X1_check q1332 q1333 q77 q1334 rfl (Nat.le_of_ble_eq_true rfl) dX1_ifCracked_15 rfl hp18 hp19 (c_X1_check G l k16 k17 r12 h13 X _ (st_C C) hw) (k_V (fun h15 hw => ?_))
  refine r_aload_n C rfl 0 rfl dX1_ifCracked_18 ?_
  refine r_gfR (k := 0) C kX1 (by decide) (Or.inl q344) (Or.inl rfl) dX1_ifCracked_19 hw (fun v20 hw => ?_)
  obtain ⟨y21, rfl, hw_y21⟩ := hw
  have hw := hw_y21
  refine r_gfR (k := 1) C kX2 (by decide) (Or.inr ⟨_, (List.mem_of_getElem? (i := 4) rfl)⟩) (Or.inl rfl) dX1_ifCracked_22 hw (fun v22 hw => ?_)
  refine r_iload_n C rfl 1 rfl dX1_ifCracked_25 ?_
  obtain ⟨y23, rfl, hw_y23⟩ := hw
  have hw := hw_y23
  obtain ⟨hq24, hw⟩ := hw
  refine r_callF (ci := 8) (rest := []) (As := [.int i1]) C (x := ⟨"java/util/List", "get", "(I)Ljava/lang/Object;"⟩) (show ySg ⟨"java/util/List", "get", "(I)Ljava/lang/Object;"⟩ 1 = true by decide +kernel) rfl q887 q453 q455 q81 q457 (List.mem_of_getElem? (i := 6) rfl) rfl (Nat.le_of_ble_eq_true rfl) dX1_ifCracked_26 rfl hq24 hp18 hp19 (cj_J2_get G l y23 i1 h15 _ hw) (k_R (fun r25 h26 hw => ?_))
  obtain ⟨e28, hw⟩ := hw
  refine r_cast (x := r25) C (ci := 4) rfl q888 dX1_ifCracked_31 e28 ?_
  refine r_iload_n C rfl 2 rfl dX1_ifCracked_34 ?_
  obtain ⟨y29, rfl, hw_y29⟩ := hw
  have hw := hw_y29
  obtain ⟨hq30, hw⟩ := hw
  obtain ⟨k33, k34, hp35, hp36, hw⟩ := hw
  refine r_callV (ci := 4) (rest := []) (As := [.int i2]) C sg_X5_canCrack rfl rfl q889 q890 q891 q107 q892 rfl (Nat.le_of_ble_eq_true rfl) dX1_ifCracked_35 rfl hq30 hp35 hp36 (c_X5_canCrack G l k33 k34 y29 i2 h26 _ hw) (k_Z (fun r31 h32 hw => ?_))
  obtain ⟨k39, k40, hp41, hp42, hw⟩ := hw
  refine r_callSX (rest := []) (As := [.int (bI r31)]) C sg_X1_free q1340 q1341 q77 q1342 rfl (Nat.le_of_ble_eq_true rfl) dX1_ifCracked_38 rfl hp41 hp42 (c_X1_free G l k39 k40 r31 h32 X _ (st_C C) hw) (k_V (fun h38 hw => ?_))
  refine r_aload_n C rfl 0 rfl dX1_ifCracked_41 ?_
  refine r_gfR (k := 0) C kX1 (by decide) (Or.inl q344) (Or.inl rfl) dX1_ifCracked_42 hw (fun v43 hw => ?_)
  obtain ⟨y44, rfl, hw_y44⟩ := hw
  have hw := hw_y44
  obtain ⟨hq45, hw⟩ := hw
  obtain ⟨k48, k49, hp50, hp51, hw⟩ := hw
  refine r_callV (ci := 1) (rest := []) (As := []) C sg_X2_copy rfl rfl q1761 q1762 q1763 q78 q1764 rfl (Nat.le_of_ble_eq_true rfl) dX1_ifCracked_45 rfl hq45 hp50 hp51 (c_X2_copy G l k48 k49 y44 h38 _ hw) (k_R (fun r46 h47 hw => ?_))
  refine r_astore_nO (x := r46) (L' := [(3, va_rf r46), (0, .ref a0), (1, .int i1), (2, .int i2)]) C rfl (by decide) rfl dX1_ifCracked_48 (r_aload_nO C rfl 0 rfl dX1_ifCracked_49 (r_iload_n C rfl 2 rfl dX1_ifCracked_50 (r_iload_n C rfl 3 rfl dX1_ifCracked_51 ?_)))
  obtain ⟨y52, rfl, hw_y52⟩ := hw
  have hw := hw_y52
  obtain ⟨hq53, hw⟩ := hw
  obtain ⟨k56, k57, hp58, hp59, hw⟩ := hw
  refine r_callV (ci := 1) (rest := []) (As := [.int i1, .int i2]) C sg_X2_crack rfl rfl q974 q975 q976 q78 q977 rfl (Nat.le_of_ble_eq_true rfl) dX1_ifCracked_52 rfl hq53 hp58 hp59 (c_X2_crack G l k56 k57 y52 i1 i2 h47 _ hw) (k_I (fun r54 h55 hw => ?_))
  refine r_pop C rfl dX1_ifCracked_55 (r_aload_n C rfl 0 rfl dX1_ifCracked_56 (r_iconst (v := (-1 : Int32)) C (by decide) dX1_ifCracked_57 ?_))
  obtain ⟨hq60, hw⟩ := hw
  obtain ⟨k63, k64, hp65, hp66, hw⟩ := hw
  refine r_callV (ci := 1) (rest := []) (As := [.int (-1 : Int32)]) C sg_X2_many rfl rfl q1379 q1380 q1381 q78 q1382 rfl (Nat.le_of_ble_eq_true rfl) dX1_ifCracked_58 rfl hq60 hp65 hp66 (c_X2_many G l k63 k64 y52 (-1 : Int32) h55 _ hw) (k_I (fun r61 h62 hw => ?_))
  refine r_aload_n C rfl 1 rfl dX1_ifCracked_61 ?_
  refine r_gfR (k := 0) C kX1 (by decide) (Or.inl q344) (Or.inl rfl) dX1_ifCracked_62 hw (fun v67 hw => ?_)
  refine r_iconst (v := (-1 : Int32)) C (by decide) dX1_ifCracked_65 ?_
  obtain ⟨y68, rfl, hw_y68⟩ := hw
  have hw := hw_y68
  obtain ⟨hq69, hw⟩ := hw
  obtain ⟨k72, k73, hp74, hp75, hw⟩ := hw
  refine r_callV (ci := 1) (rest := [.int r61]) (As := [.int (-1 : Int32)]) C sg_X2_many rfl rfl q1379 q1380 q1381 q78 q1382 rfl (Nat.le_of_ble_eq_true rfl) dX1_ifCracked_66 rfl hq69 hp74 hp75 (c_X2_many G l k72 k73 y68 (-1 : Int32) h62 _ hw) (k_I (fun r70 h71 hw => ?_))
  refine r_isub C dX1_ifCracked_69 ?_
  exact r_ireturn C dX1_ifCracked_70 hp74 hp75 ⟨_, rfl, hw⟩
def B_X1_ifHung_23 (mc ms : Nat) (X : String → Hp → Prop) (Q : Int32 → Hp → Prop) (h : Hp) (c : Nat) (n : Nat) (x0 : Nat) (x1 : Int32) (x2 : Int32) (s0 : Bool) : Prop :=
  ∃ k3 k4 : Nat, c + k3 ≤ mc ∧ n + k4 ≤ ms ∧ (w_X1_exists k3 k4 s0 h X (fun h2 => gfR h2 x0 0 0 (fun v7 => nn v7 (fun y8 => hasC h2 y8 1 ∧ (∃ k12 k13 : Nat, (c + k3) + k12 ≤ mc ∧ (n + k4) + k13 ≤ ms ∧ (w_X2_copy k12 k13 y8 h2 (fun r10 h11 => nn r10 (fun y16 => hasC h11 y16 1 ∧ (∃ k20 k21 : Nat, ((c + k3) + k12) + k20 ≤ mc ∧ ((n + k4) + k13) + k21 ≤ ms ∧ (w_X2_hang k20 k21 y16 x1 x2 h11 (fun r18 h19 => hasC h19 y16 1 ∧ (∃ k27 k28 : Nat, (((c + k3) + k12) + k20) + k27 ≤ mc ∧ (((n + k4) + k13) + k21) + k28 ≤ ms ∧ (w_X2_yearsOf k27 k28 y16 x2 (-1 : Int32) h19 (fun r25 h26 => nn r25 (fun y31 => hasC h26 y31 15 ∧ (wj_J30_cardinality y31 h26 (fun r33 h34 => Q r33 h34)))))))))))))))))
def w_X1_ifHung (mc ms : Nat) (a0 : Nat) (i1 : Int32) (i2 : Int32) (h : Hp) (X : String → Hp → Prop) (Q : Int32 → Hp → Prop) : Prop :=
  gfR h a0 0 0 (fun v35 => nn v35 (fun y36 => hasC h y36 1 ∧ (w_X2_hasSeal y36 i1 h (fun r38 h39 => (r38 = false → B_X1_ifHung_23 mc ms X Q h39 0 0 a0 i1 i2 false) ∧ (r38 = true → w_X1_isCharter i2 h39 (fun r41 h42 => B_X1_ifHung_23 mc ms X Q h42 0 0 a0 i1 i2 (if r41 = false then false else true)))))))
theorem b_X1_ifHung_23 {G : gT} {l : Launch} {V : Hp → Nat → Nat → Nat → List (Nat × Value) → List Value → Prop} {mc ms : Nat} {X : String → Hp → Prop} {Q : Int32 → Hp → Prop} (C : Cx G l V cX1_ifHung 4 RX1 11 238 mc ms (pI Q) (some X) (some .int) [] false) (h : Hp) (c : Nat) (n : Nat) (x0 : Nat) (x1 : Int32) (x2 : Int32) (s0 : Bool) (b1 : c ≤ mc) (b2 : n ≤ ms) (hw : B_X1_ifHung_23 mc ms X Q h c n x0 x1 x2 s0) : V h c n 23 [(0, .ref x0), (1, .int x1), (2, .int x2)] [.int (bI s0)] := by
  unfold B_X1_ifHung_23 at hw
  obtain ⟨k3, k4, hp5, hp6, hw⟩ := hw
  refine r_callSX (rest := []) (As := [.int (bI s0)]) C sg_X1_exists q1599 q1600 q77 q1601 rfl (Nat.le_of_ble_eq_true rfl) dX1_ifHung_23 rfl hp5 hp6 (c_X1_exists G l k3 k4 s0 h X _ (st_C C) hw) (k_V (fun h2 hw => ?_))
  refine r_aload_n C rfl 0 rfl dX1_ifHung_26 ?_
  refine r_gfR (k := 0) C kX1 (by decide) (Or.inl q344) (Or.inl rfl) dX1_ifHung_27 hw (fun v7 hw => ?_)
  obtain ⟨y8, rfl, hw_y8⟩ := hw
  have hw := hw_y8
  obtain ⟨hq9, hw⟩ := hw
  obtain ⟨k12, k13, hp14, hp15, hw⟩ := hw
  refine r_callV (ci := 1) (rest := []) (As := []) C sg_X2_copy rfl rfl q1761 q1762 q1763 q78 q1764 rfl (Nat.le_of_ble_eq_true rfl) dX1_ifHung_30 rfl hq9 hp14 hp15 (c_X2_copy G l k12 k13 y8 h2 _ hw) (k_R (fun r10 h11 hw => ?_))
  refine r_astore_nO (x := r10) (L' := [(3, va_rf r10), (0, .ref x0), (1, .int x1), (2, .int x2)]) C rfl (by decide) rfl dX1_ifHung_33 (r_aload_nO C rfl 0 rfl dX1_ifHung_34 (r_iload_n C rfl 2 rfl dX1_ifHung_35 (r_iload_n C rfl 3 rfl dX1_ifHung_36 ?_)))
  obtain ⟨y16, rfl, hw_y16⟩ := hw
  have hw := hw_y16
  obtain ⟨hq17, hw⟩ := hw
  obtain ⟨k20, k21, hp22, hp23, hw⟩ := hw
  refine r_callV (ci := 1) (rest := []) (As := [.int x1, .int x2]) C sg_X2_hang rfl rfl q1039 q1040 q1041 q78 q1042 rfl (Nat.le_of_ble_eq_true rfl) dX1_ifHung_37 rfl hq17 hp22 hp23 (c_X2_hang G l k20 k21 y16 x1 x2 h11 _ hw) (k_I (fun r18 h19 hw => ?_))
  refine r_pop C rfl dX1_ifHung_40 (r_aload_n C rfl 0 rfl dX1_ifHung_41 (r_iload_n C rfl 3 rfl dX1_ifHung_42 (r_iconst (v := (-1 : Int32)) C (by decide) dX1_ifHung_43 ?_)))
  obtain ⟨hq24, hw⟩ := hw
  obtain ⟨k27, k28, hp29, hp30, hw⟩ := hw
  refine r_callV (ci := 1) (rest := []) (As := [.int x2, .int (-1 : Int32)]) C sg_X2_yearsOf rfl rfl q1704 q1388 q1389 q78 q1390 rfl (Nat.le_of_ble_eq_true rfl) dX1_ifHung_44 rfl hq24 hp29 hp30 (c_X2_yearsOf G l k27 k28 y16 x2 (-1 : Int32) h19 _ hw) (k_R (fun r25 h26 hw => ?_))
  obtain ⟨y31, rfl, hw_y31⟩ := hw
  have hw := hw_y31
  obtain ⟨hq32, hw⟩ := hw
  refine r_callV (ci := 15) (rest := []) (As := []) C sg_J30_cardinality rfl rfl q1668 q1669 q1670 q116 q1671 rfl (Nat.le_of_ble_eq_true rfl) dX1_ifHung_47 rfl hq32 hp29 hp30 (cj_J30_cardinality G l y31 h26 _ hw) (k_I (fun r33 h34 hw => ?_))
  exact r_ireturn C dX1_ifHung_50 hp29 hp30 ⟨_, rfl, hw⟩
theorem sg_X1_ifHung : ySg yX1_ifHung 2 = true := by decide +kernel
theorem c_X1_ifHung (G : gT) (l : Launch) (mc ms : Nat) (a0 : Nat) (i1 : Int32) (i2 : Int32) (h : Hp) (X : String → Hp → Prop) (Q : Int32 → Hp → Prop) (hst : l.stackTraces = false) (hw : w_X1_ifHung mc ms a0 i1 i2 h X Q) : CtX G l yX1_ifHung (ws_ yX1_ifHung cX1_ifHung 4 (some .int)) 11 238 mc ms [.ref a0, .int i1, .int i2] h (pI Q) X := by
  refine CtX.of (own := RX1) hst (by decide +kernel) rfl (show (_ : Nat) ≤ _ from Nat.le_of_ble_eq_true rfl) (fun V C => ?_)
  show V h 0 0 0 [(0, .ref a0), (1, .int i1), (2, .int i2)] []
  unfold w_X1_ifHung at hw
  refine r_aload_n C rfl 0 rfl dX1_ifHung_0 ?_
  refine r_gfR (k := 0) C kX1 (by decide) (Or.inl q344) (Or.inl rfl) dX1_ifHung_1 hw (fun v35 hw => ?_)
  refine r_iload_n C rfl 1 rfl dX1_ifHung_4 ?_
  obtain ⟨y36, rfl, hw_y36⟩ := hw
  have hw := hw_y36
  obtain ⟨hq37, hw⟩ := hw
  refine r_callV (ci := 1) (rest := []) (As := [.int i1]) C sg_X2_hasSeal rfl rfl q1035 q1036 q1037 q78 q1038 rfl (Nat.le_of_ble_eq_true rfl) dX1_ifHung_5 rfl hq37 (Nat.zero_le _) (Nat.zero_le _) (c_X2_hasSeal G l y36 i1 h _ hw) (k_Z (fun r38 h39 hw => ?_))
  refine r_if_eq_b (tgt := 22) C (by decide) dX1_ifHung_8 (fun hc40 => ?_) (fun hc40 => ?_)
  · have hw := hw.1 hc40
    refine r_iconst (v := (0 : Int32)) C (by decide) dX1_ifHung_22 ?_
    exact r_sub C [0, 1, 2] rfl (b_X1_ifHung_23 C _ _ _ _ _ _ _ (Nat.zero_le _) (Nat.zero_le _) hw)
  · have hw := hw.2 hc40
    refine r_iload_n C rfl 2 rfl dX1_ifHung_11 ?_
    refine r_callS (rest := []) (As := [.int i2]) C sg_X1_isCharter q1700 q1701 q77 q1702 rfl (Nat.le_of_ble_eq_true rfl) dX1_ifHung_12 rfl (Nat.zero_le _) (Nat.zero_le _) (c_X1_isCharter G l i2 h39 _ hw) (k_Z (fun r41 h42 hw => ?_))
    have hJ : V h42 0 0 23 [(0, .ref a0), (1, .int i1), (2, .int i2)] [.int (bI (if r41 = false then false else true))] := by
      exact r_sub C [0, 1, 2] rfl (b_X1_ifHung_23 C _ _ _ _ _ _ _ (Nat.zero_le _) (Nat.zero_le _) hw)
    refine r_if_eq_b (tgt := 22) C (by decide) dX1_ifHung_15 (fun hc43 => ?_) (fun hc43 => ?_)
    · have hJ44 := hJ
      try simp only [if_pos hc43] at hJ44
      refine r_iconst (v := (0 : Int32)) C (by decide) dX1_ifHung_22 ?_
      exact r_sub C [0, 1, 2] rfl hJ44
    · have hJ44 := hJ
      try simp only [if_neg (show ¬ r41 = false from by rw [hc43]; decide)] at hJ44
      refine r_iconst (v := (1 : Int32)) C (by decide) dX1_ifHung_18 (r_goto (tgt := 23) C (by decide) dX1_ifHung_19 ?_)
      exact r_sub C [0, 1, 2] rfl hJ44
def B_X1_inYear_60 (mc ms : Nat) (X : String → Hp → Prop) (Q : Int32 → Hp → Prop) (LA20 : Hp → Nat → Nat → Nat → Int32 → (Option Nat) → Int32 → Int32 → Prop) (h : Hp) (c : Nat) (n : Nat) (x0 : Nat) (x1 : Int32) (x2 : Option Nat) (x4 : Int32) (s0 : Int32) (s1 : Bool) : Prop :=
  LA20 h c n x0 x1 x2 (s0 + (bI s1)) (x4 + (1 : Int32))
def S_X1_inYear_20 (mc ms : Nat) (X : String → Hp → Prop) (Q : Int32 → Hp → Prop) (LA20 : Hp → Nat → Nat → Nat → Int32 → (Option Nat) → Int32 → Int32 → Prop) (h : Hp) (c : Nat) (n : Nat) (x0 : Nat) (x1 : Int32) (x2 : Option Nat) (x3 : Int32) (x4 : Int32) : Prop :=
  nn x2 (fun y1 => alen h y1 (fun v2 => (v2 ≤ x4 → Q x3 h) ∧ (¬ v2 ≤ x4 → rdI h y1 x4 (fun v4 => (¬ v4 = 0 → B_X1_inYear_60 mc ms X Q LA20 h c n x0 x1 (some y1) x4 x3 false) ∧ (v4 = 0 → gfR h x0 0 0 (fun v6 => nn v6 (fun y7 => hasC h y7 1 ∧ (∃ k11 k12 : Nat, c + k11 ≤ mc ∧ n + k12 ≤ ms ∧ (w_X2_possible k11 k12 y7 x4 h (fun r9 h10 => nn r9 (fun y15 => hasC h10 y15 15 ∧ (wj_J30_get y15 (x1 - (1000 : Int32)) h10 (fun r17 h18 => B_X1_inYear_60 mc ms X Q LA20 h18 (c + k11) (n + k12) x0 x1 (some y1) x4 x3 (if r17 = false then false else true))))))))))))))
def B_X1_inYear_20 (mc ms : Nat) (X : String → Hp → Prop) (Q : Int32 → Hp → Prop) : Nat → Hp → Nat → Nat → Nat → Int32 → (Option Nat) → Int32 → Int32 → Prop
  | 0, _, _, _, _, _, _, _, _ => False
  | k + 1, h, c, n, x0, x1, x2, x3, x4 => S_X1_inYear_20 mc ms X Q (B_X1_inYear_20 mc ms X Q k) h c n x0 x1 x2 x3 x4
def w_X1_inYear (mc ms : Nat) (a0 : Nat) (i1 : Int32) (h : Hp) (X : String → Hp → Prop) (Q : Int32 → Hp → Prop) : Prop :=
  w_X1_isYear i1 h (fun r21 h22 => ∃ k25 k26 : Nat, 0 + k25 ≤ mc ∧ 0 + k26 ≤ ms ∧ (w_X1_check k25 k26 r21 h22 X (fun h24 => gfR h24 a0 0 0 (fun v29 => nn v29 (fun y30 => hasC h24 y30 1 ∧ (∃ k34 k35 : Nat, (0 + k25) + k34 ≤ mc ∧ (0 + k26) + k35 ≤ ms ∧ (w_X2_fakes k34 k35 y30 h24 (fun r32 h33 => ∃ k9 : Nat, B_X1_inYear_20 mc ms X Q k9 h33 ((0 + k25) + k34) ((0 + k26) + k35) a0 i1 r32 (0 : Int32) (0 : Int32)))))))))
theorem b_X1_inYear_60 {G : gT} {l : Launch} {V : Hp → Nat → Nat → Nat → List (Nat × Value) → List Value → Prop} {mc ms : Nat} {X : String → Hp → Prop} {Q : Int32 → Hp → Prop} (C : Cx G l V cX1_inYear 5 RX1 12 262 mc ms (pI Q) (some X) (some .int) [] false) (LA20 : Hp → Nat → Nat → Nat → Int32 → (Option Nat) → Int32 → Int32 → Prop) (hLA20 : ∀ (h : Hp) (c : Nat) (n : Nat) (x0 : Nat) (x1 : Int32) (x2 : Option Nat) (x3 : Int32) (x4 : Int32), c ≤ mc → n ≤ ms → LA20 h c n x0 x1 x2 x3 x4 → V h c n 20 [(0, .ref x0), (1, .int x1), (2, va_rf x2), (3, .int x3), (4, .int x4)] []) (h : Hp) (c : Nat) (n : Nat) (x0 : Nat) (x1 : Int32) (x2 : Option Nat) (x4 : Int32) (s0 : Int32) (s1 : Bool) (b1 : c ≤ mc) (b2 : n ≤ ms) (hw : B_X1_inYear_60 mc ms X Q LA20 h c n x0 x1 x2 x4 s0 s1) : V h c n 60 [(0, .ref x0), (1, .int x1), (2, va_rf x2), (4, .int x4)] [.int (bI s1), .int s0] := by
  unfold B_X1_inYear_60 at hw
  refine r_iadd C dX1_inYear_60 (r_istore_n (L' := [(3, .int (s0 + (bI s1))), (0, .ref x0), (1, .int x1), (2, va_rf x2), (4, .int x4)]) C rfl (by decide) (by rcases x2 with _ | _ <;> rfl) dX1_inYear_61 (r_iinc (v := x4 + (1 : Int32)) (L' := [(4, .int (x4 + (1 : Int32))), (3, .int (s0 + (bI s1))), (0, .ref x0), (1, .int x1), (2, va_rf x2)]) C (u := 4) rfl (by rfl) (by decide) rfl dX1_inYear_62 (r_goto (tgt := 20) C (by decide) dX1_inYear_65 ?_)))
  exact r_sub C [2, 3, 4, 1, 0] rfl (hLA20 _ _ _ _ _ _ _ _ b1 b2 hw)
theorem s_X1_inYear_20 {G : gT} {l : Launch} {V : Hp → Nat → Nat → Nat → List (Nat × Value) → List Value → Prop} {mc ms : Nat} {X : String → Hp → Prop} {Q : Int32 → Hp → Prop} (C : Cx G l V cX1_inYear 5 RX1 12 262 mc ms (pI Q) (some X) (some .int) [] false) (LA20 : Hp → Nat → Nat → Nat → Int32 → (Option Nat) → Int32 → Int32 → Prop) (hLA20 : ∀ (h : Hp) (c : Nat) (n : Nat) (x0 : Nat) (x1 : Int32) (x2 : Option Nat) (x3 : Int32) (x4 : Int32), c ≤ mc → n ≤ ms → LA20 h c n x0 x1 x2 x3 x4 → V h c n 20 [(0, .ref x0), (1, .int x1), (2, va_rf x2), (3, .int x3), (4, .int x4)] []) (h : Hp) (c : Nat) (n : Nat) (x0 : Nat) (x1 : Int32) (x2 : Option Nat) (x3 : Int32) (x4 : Int32) (b1 : c ≤ mc) (b2 : n ≤ ms) (hw : S_X1_inYear_20 mc ms X Q LA20 h c n x0 x1 x2 x3 x4) : V h c n 20 [(0, .ref x0), (1, .int x1), (2, va_rf x2), (3, .int x3), (4, .int x4)] [] := by
  unfold S_X1_inYear_20 at hw
  refine r_iload C 4 rfl dX1_inYear_20 (r_aload_nO C rfl 2 rfl dX1_inYear_22 ?_)
  obtain ⟨y1, rfl, hw_y1⟩ := hw
  have hw := hw_y1
  refine r_alen C dX1_inYear_23 hw (fun v2 hw => ?_)
  refine r_icmp_ge (tgt := 68) C (by decide) dX1_inYear_24 (fun hc3 => ?_) (fun hc3 => ?_)
  · have hw := hw.1 hc3
    refine r_iload_n C rfl 3 rfl dX1_inYear_68 ?_
    exact r_ireturn C dX1_inYear_69 b1 b2 ⟨_, rfl, hw⟩
  · have hw := hw.2 hc3
    refine r_iload_n C rfl 3 rfl dX1_inYear_27 (r_aload_n C rfl 2 rfl dX1_inYear_28 (r_iload C 4 rfl dX1_inYear_29 ?_))
    refine r_iaload C dX1_inYear_31 hw (fun v4 hw => ?_)
    refine r_if_ne (tgt := 59) C (by decide) dX1_inYear_32 (fun hc5 => ?_) (fun hc5 => ?_)
    · have hw := hw.1 hc5
      refine r_iconst (v := (0 : Int32)) C (by decide) dX1_inYear_59 ?_
      exact r_sub C [0, 1, 2, 4] rfl (b_X1_inYear_60 C LA20 hLA20 _ _ _ _ _ _ _ _ _ b1 b2 hw)
    · have hw := hw.2 hc5
      refine r_aload_n C rfl 0 rfl dX1_inYear_35 ?_
      refine r_gfR (k := 0) C kX1 (by decide) (Or.inl q344) (Or.inl rfl) dX1_inYear_36 hw (fun v6 hw => ?_)
      refine r_iload C 4 rfl dX1_inYear_39 ?_
      obtain ⟨y7, rfl, hw_y7⟩ := hw
      have hw := hw_y7
      obtain ⟨hq8, hw⟩ := hw
      obtain ⟨k11, k12, hp13, hp14, hw⟩ := hw
      refine r_callV (ci := 1) (rest := [.int x3]) (As := [.int x4]) C sg_X2_possible rfl rfl q1652 q1425 q1426 q78 q1427 rfl (Nat.le_of_ble_eq_true rfl) dX1_inYear_41 rfl hq8 hp13 hp14 (c_X2_possible G l k11 k12 y7 x4 h _ hw) (k_R (fun r9 h10 hw => ?_))
      refine r_iload_n C rfl 1 rfl dX1_inYear_44 (r_sipush (v := (1000 : Int32)) C (by decide) dX1_inYear_45 (r_isub C dX1_inYear_48 ?_))
      obtain ⟨y15, rfl, hw_y15⟩ := hw
      have hw := hw_y15
      obtain ⟨hq16, hw⟩ := hw
      refine r_callV (ci := 15) (rest := [.int x3]) (As := [.int (x1 - (1000 : Int32))]) C sg_J30_get rfl rfl q1689 q1690 q1691 q116 q1692 rfl (Nat.le_of_ble_eq_true rfl) dX1_inYear_49 rfl hq16 hp13 hp14 (cj_J30_get G l y15 (x1 - (1000 : Int32)) h10 _ hw) (k_Z (fun r17 h18 hw => ?_))
      have hJ : V h18 (c + k11) (n + k12) 60 [(0, .ref x0), (1, .int x1), (2, .ref y1), (4, .int x4)] [.int (bI (if r17 = false then false else true)), .int x3] := by
        exact r_sub C [0, 1, 2, 3] rfl (b_X1_inYear_60 C LA20 hLA20 _ _ _ _ _ _ _ _ _ hp13 hp14 hw)
      refine r_if_eq_b (tgt := 59) C (by decide) dX1_inYear_52 (fun hc19 => ?_) (fun hc19 => ?_)
      · have hJ20 := hJ
        try simp only [if_pos hc19] at hJ20
        refine r_iconst (v := (0 : Int32)) C (by decide) dX1_inYear_59 ?_
        exact r_sub C [0, 1, 2, 4] rfl hJ20
      · have hJ20 := hJ
        try simp only [if_neg (show ¬ r17 = false from by rw [hc19]; decide)] at hJ20
        refine r_iconst (v := (1 : Int32)) C (by decide) dX1_inYear_55 (r_goto (tgt := 60) C (by decide) dX1_inYear_56 ?_)
        exact r_sub C [0, 1, 2, 4] rfl hJ20
theorem b_X1_inYear_20 {G : gT} {l : Launch} {V : Hp → Nat → Nat → Nat → List (Nat × Value) → List Value → Prop} {mc ms : Nat} {X : String → Hp → Prop} {Q : Int32 → Hp → Prop} (C : Cx G l V cX1_inYear 5 RX1 12 262 mc ms (pI Q) (some X) (some .int) [] false) : ∀ (k : Nat) (h : Hp) (c : Nat) (n : Nat) (x0 : Nat) (x1 : Int32) (x2 : Option Nat) (x3 : Int32) (x4 : Int32), c ≤ mc → n ≤ ms → B_X1_inYear_20 mc ms X Q k h c n x0 x1 x2 x3 x4 → V h c n 20 [(0, .ref x0), (1, .int x1), (2, va_rf x2), (3, .int x3), (4, .int x4)] [] := by
  intro k
  induction k with
  | zero =>
    intro h c n x0 x1 x2 x3 x4 b1 b2 hw
    exact hw.elim
  | succ k ih =>
    intro h c n x0 x1 x2 x3 x4 b1 b2 hw
    exact s_X1_inYear_20 C _ (fun h c n x0 x1 x2 x3 x4 b1 b2 hw => ih h c n x0 x1 x2 x3 x4 b1 b2 hw) h c n x0 x1 x2 x3 x4 b1 b2 hw
theorem sg_X1_inYear : ySg yX1_inYear 1 = true := by decide +kernel
theorem c_X1_inYear (G : gT) (l : Launch) (mc ms : Nat) (a0 : Nat) (i1 : Int32) (h : Hp) (X : String → Hp → Prop) (Q : Int32 → Hp → Prop) (hst : l.stackTraces = false) (hw : w_X1_inYear mc ms a0 i1 h X Q) : CtX G l yX1_inYear (ws_ yX1_inYear cX1_inYear 5 (some .int)) 12 262 mc ms [.ref a0, .int i1] h (pI Q) X := by
  refine CtX.of (own := RX1) hst (by decide +kernel) rfl (show (_ : Nat) ≤ _ from Nat.le_of_ble_eq_true rfl) (fun V C => ?_)
  show V h 0 0 0 [(0, .ref a0), (1, .int i1)] []
  unfold w_X1_inYear at hw
  refine r_iload_n C rfl 1 rfl dX1_inYear_0 ?_
  refine r_callS (rest := []) (As := [.int i1]) C sg_X1_isYear q836 q837 q77 q838 rfl (Nat.le_of_ble_eq_true rfl) dX1_inYear_1 rfl (Nat.zero_le _) (Nat.zero_le _) (c_X1_isYear G l i1 h _ hw) (k_Z (fun r21 h22 hw => ?_))
  obtain ⟨k25, k26, hp27, hp28, hw⟩ := hw
  refine r_callSX (rest := []) (As := [.int (bI r21)]) C sg_X1_check q1332 q1333 q77 q1334 rfl (Nat.le_of_ble_eq_true rfl) dX1_inYear_4 rfl hp27 hp28 (c_X1_check G l k25 k26 r21 h22 X _ (st_C C) hw) (k_V (fun h24 hw => ?_))
  refine r_aload_n C rfl 0 rfl dX1_inYear_7 ?_
  refine r_gfR (k := 0) C kX1 (by decide) (Or.inl q344) (Or.inl rfl) dX1_inYear_8 hw (fun v29 hw => ?_)
  obtain ⟨y30, rfl, hw_y30⟩ := hw
  have hw := hw_y30
  obtain ⟨hq31, hw⟩ := hw
  obtain ⟨k34, k35, hp36, hp37, hw⟩ := hw
  refine r_callV (ci := 1) (rest := []) (As := []) C sg_X2_fakes rfl rfl q1533 q1384 q1385 q78 q1386 rfl (Nat.le_of_ble_eq_true rfl) dX1_inYear_11 rfl hq31 hp36 hp37 (c_X2_fakes G l k34 k35 y30 h24 _ hw) (k_R (fun r32 h33 hw => ?_))
  refine r_astore_nO (x := r32) (L' := [(2, va_rf r32), (0, .ref a0), (1, .int i1)]) C rfl (by decide) rfl dX1_inYear_14 (r_iconst (v := (0 : Int32)) C (by decide) dX1_inYear_15 (r_istore_n (L' := [(3, .int (0 : Int32)), (2, va_rf r32), (0, .ref a0), (1, .int i1)]) C rfl (by decide) (by rcases r32 with _ | _ <;> rfl) dX1_inYear_16 (r_iconst (v := (0 : Int32)) C (by decide) dX1_inYear_17 (r_istore (L' := [(4, .int (0 : Int32)), (3, .int (0 : Int32)), (2, va_rf r32), (0, .ref a0), (1, .int i1)]) C (by decide) rfl dX1_inYear_18 ?_))))
  obtain ⟨k9, hw⟩ := hw
  exact r_sub C [3, 4, 2, 1, 0] rfl (b_X1_inYear_20 C _ _ _ _ _ _ _ _ _ hp36 hp37 hw)
def S_X1_leastBubbles_33 (mc ms : Nat) (X : String → Hp → Prop) (Q : Int32 → Hp → Prop) (LA33 : Hp → Nat → Nat → Int32 → Int32 → (Option Nat) → Int32 → Prop) (h : Hp) (c : Nat) (n : Nat) (x1 : Int32) (x2 : Int32) (x3 : Option Nat) (x4 : Int32) : Prop :=
  ((99 : Int32) < x4 → Q (-1 : Int32) h) ∧ (¬ (99 : Int32) < x4 → nn x3 (fun y2 => gfR h y2 1 4 (fun v3 => nn v3 (fun y5 => wrI h y5 x1 x4 (fun h4 => hasC h4 y2 1 ∧ (∃ k9 k10 : Nat, c + k9 ≤ mc ∧ n + k10 ≤ ms ∧ (w_X2_many k9 k10 y2 (-1 : Int32) h4 (fun r7 h8 => (x2 < r7 → LA33 h8 (c + k9) (n + k10) x1 x2 (some y2) (x4 + (1 : Int32))) ∧ (¬ x2 < r7 → Q x4 h8)))))))))
def B_X1_leastBubbles_33 (mc ms : Nat) (X : String → Hp → Prop) (Q : Int32 → Hp → Prop) : Nat → Hp → Nat → Nat → Int32 → Int32 → (Option Nat) → Int32 → Prop
  | 0, _, _, _, _, _, _, _ => False
  | k + 1, h, c, n, x1, x2, x3, x4 => S_X1_leastBubbles_33 mc ms X Q (B_X1_leastBubbles_33 mc ms X Q k) h c n x1 x2 x3 x4
def w_X1_leastBubbles (mc ms : Nat) (a0 : Nat) (i1 : Int32) (i2 : Int32) (h : Hp) (X : String → Hp → Prop) (Q : Int32 → Hp → Prop) : Prop :=
  w_X1_isIn i1.toInt64 (0 : Int64) (1 : Int64) h (fun r14 h15 => ∃ k18 k19 : Nat, 0 + k18 ≤ mc ∧ 0 + k19 ≤ ms ∧ (w_X1_check k18 k19 (if r14 = false then false else (if i2 < 0 then false else true)) h15 X (fun h17 => gfR h17 a0 0 0 (fun v22 => nn v22 (fun y23 => hasC h17 y23 1 ∧ (∃ k27 k28 : Nat, (0 + k18) + k27 ≤ mc ∧ (0 + k19) + k28 ≤ ms ∧ (w_X2_copy k27 k28 y23 h17 (fun r25 h26 => ∃ k9 : Nat, B_X1_leastBubbles_33 mc ms X Q k9 h26 ((0 + k18) + k27) ((0 + k19) + k28) i1 i2 r25 (0 : Int32)))))))))
theorem s_X1_leastBubbles_33 {G : gT} {l : Launch} {V : Hp → Nat → Nat → Nat → List (Nat × Value) → List Value → Prop} {mc ms : Nat} {X : String → Hp → Prop} {Q : Int32 → Hp → Prop} (C : Cx G l V cX1_leastBubbles 5 RX1 13 288 mc ms (pI Q) (some X) (some .int) [] false) (LA33 : Hp → Nat → Nat → Int32 → Int32 → (Option Nat) → Int32 → Prop) (hLA33 : ∀ (h : Hp) (c : Nat) (n : Nat) (x1 : Int32) (x2 : Int32) (x3 : Option Nat) (x4 : Int32), c ≤ mc → n ≤ ms → LA33 h c n x1 x2 x3 x4 → V h c n 33 [(1, .int x1), (2, .int x2), (3, va_rf x3), (4, .int x4)] []) (h : Hp) (c : Nat) (n : Nat) (x1 : Int32) (x2 : Int32) (x3 : Option Nat) (x4 : Int32) (b1 : c ≤ mc) (b2 : n ≤ ms) (hw : S_X1_leastBubbles_33 mc ms X Q LA33 h c n x1 x2 x3 x4) : V h c n 33 [(1, .int x1), (2, .int x2), (3, va_rf x3), (4, .int x4)] [] := by
  unfold S_X1_leastBubbles_33 at hw
  refine r_iload C 3 rfl dX1_leastBubbles_33 (r_bipush (v := (99 : Int32)) C (by decide) dX1_leastBubbles_35 ?_)
  refine r_icmp_gt (tgt := 66) C (by decide) dX1_leastBubbles_37 (fun hc1 => ?_) (fun hc1 => ?_)
  · have hw := hw.1 hc1
    refine r_iconst (v := (-1 : Int32)) C (by decide) dX1_leastBubbles_66 ?_
    exact r_ireturn C dX1_leastBubbles_67 b1 b2 ⟨_, rfl, hw⟩
  · have hw := hw.2 hc1
    refine r_aload_nO C rfl 2 rfl dX1_leastBubbles_40 ?_
    obtain ⟨y2, rfl, hw_y2⟩ := hw
    have hw := hw_y2
    refine r_gfR (k := 4) C kX2 (by decide) (Or.inr ⟨_, (List.mem_of_getElem? (i := 8) rfl)⟩) (Or.inl rfl) dX1_leastBubbles_41 hw (fun v3 hw => ?_)
    refine r_iload_n C rfl 0 rfl dX1_leastBubbles_44 (r_iload C 3 rfl dX1_leastBubbles_45 ?_)
    obtain ⟨y5, rfl, hw_y5⟩ := hw
    have hw := hw_y5
    refine r_iastore C dX1_leastBubbles_47 hw (fun h4 hw => ?_)
    refine r_aload_n C rfl 2 rfl dX1_leastBubbles_48 (r_iconst (v := (-1 : Int32)) C (by decide) dX1_leastBubbles_49 ?_)
    obtain ⟨hq6, hw⟩ := hw
    obtain ⟨k9, k10, hp11, hp12, hw⟩ := hw
    refine r_callV (ci := 1) (rest := []) (As := [.int (-1 : Int32)]) C sg_X2_many rfl rfl q1379 q1380 q1381 q78 q1382 rfl (Nat.le_of_ble_eq_true rfl) dX1_leastBubbles_50 rfl hq6 hp11 hp12 (c_X2_many G l k9 k10 y2 (-1 : Int32) h4 _ hw) (k_I (fun r7 h8 hw => ?_))
    refine r_iload_n C rfl 1 rfl dX1_leastBubbles_53 ?_
    refine r_icmp_gt (tgt := 60) C (by decide) dX1_leastBubbles_54 (fun hc13 => ?_) (fun hc13 => ?_)
    · have hw := hw.1 hc13
      refine r_iinc (v := x4 + (1 : Int32)) (L' := [(4, .int (x4 + (1 : Int32))), (1, .int x1), (2, .int x2), (3, .ref y2)]) C (u := 3) rfl (by rfl) (by decide) rfl dX1_leastBubbles_60 (r_goto (tgt := 33) C (by decide) dX1_leastBubbles_63 ?_)
      exact r_sub C [1, 2, 3, 0] rfl (hLA33 _ _ _ _ _ _ _ hp11 hp12 hw)
    · have hw := hw.2 hc13
      refine r_iload C 3 rfl dX1_leastBubbles_57 ?_
      exact r_ireturn C dX1_leastBubbles_59 hp11 hp12 ⟨_, rfl, hw⟩
theorem b_X1_leastBubbles_33 {G : gT} {l : Launch} {V : Hp → Nat → Nat → Nat → List (Nat × Value) → List Value → Prop} {mc ms : Nat} {X : String → Hp → Prop} {Q : Int32 → Hp → Prop} (C : Cx G l V cX1_leastBubbles 5 RX1 13 288 mc ms (pI Q) (some X) (some .int) [] false) : ∀ (k : Nat) (h : Hp) (c : Nat) (n : Nat) (x1 : Int32) (x2 : Int32) (x3 : Option Nat) (x4 : Int32), c ≤ mc → n ≤ ms → B_X1_leastBubbles_33 mc ms X Q k h c n x1 x2 x3 x4 → V h c n 33 [(1, .int x1), (2, .int x2), (3, va_rf x3), (4, .int x4)] [] := by
  intro k
  induction k with
  | zero =>
    intro h c n x1 x2 x3 x4 b1 b2 hw
    exact hw.elim
  | succ k ih =>
    intro h c n x1 x2 x3 x4 b1 b2 hw
    exact s_X1_leastBubbles_33 C _ (fun h c n x1 x2 x3 x4 b1 b2 hw => ih h c n x1 x2 x3 x4 b1 b2 hw) h c n x1 x2 x3 x4 b1 b2 hw
theorem sg_X1_leastBubbles : ySg yX1_leastBubbles 2 = true := by decide +kernel
theorem c_X1_leastBubbles (G : gT) (l : Launch) (mc ms : Nat) (a0 : Nat) (i1 : Int32) (i2 : Int32) (h : Hp) (X : String → Hp → Prop) (Q : Int32 → Hp → Prop) (hst : l.stackTraces = false) (hw : w_X1_leastBubbles mc ms a0 i1 i2 h X Q) : CtX G l yX1_leastBubbles (ws_ yX1_leastBubbles cX1_leastBubbles 5 (some .int)) 13 288 mc ms [.ref a0, .int i1, .int i2] h (pI Q) X := by
  refine CtX.of (own := RX1) hst (by decide +kernel) rfl (show (_ : Nat) ≤ _ from Nat.le_of_ble_eq_true rfl) (fun V C => ?_)
  show V h 0 0 0 [(0, .ref a0), (1, .int i1), (2, .int i2)] []
  unfold w_X1_leastBubbles at hw
  refine r_iload_n C rfl 1 rfl dX1_leastBubbles_0 (r_i2l C dX1_leastBubbles_1 (r_lconst (v := (0 : Int64)) C (by decide) dX1_leastBubbles_2 (r_lconst (v := (1 : Int64)) C (by decide) dX1_leastBubbles_3 ?_)))
  refine r_callS (rest := []) (As := [.long i1.toInt64, .long (0 : Int64), .long (1 : Int64)]) C sg_X1_isIn q399 q400 q77 q401 rfl (Nat.le_of_ble_eq_true rfl) dX1_leastBubbles_4 rfl (Nat.zero_le _) (Nat.zero_le _) (c_X1_isIn G l i1.toInt64 (0 : Int64) (1 : Int64) h _ hw) (k_Z (fun r14 h15 hw => ?_))
  have hJ : V h15 0 0 19 [(0, .ref a0), (1, .int i1), (2, .int i2)] [.int (bI (if r14 = false then false else (if i2 < 0 then false else true)))] := by
    obtain ⟨k18, k19, hp20, hp21, hw⟩ := hw
    refine r_callSX (rest := []) (As := [.int (bI (if r14 = false then false else (if i2 < 0 then false else true)))]) C sg_X1_check q1332 q1333 q77 q1334 rfl (Nat.le_of_ble_eq_true rfl) dX1_leastBubbles_19 rfl hp20 hp21 (c_X1_check G l k18 k19 (if r14 = false then false else (if i2 < 0 then false else true)) h15 X _ (st_C C) hw) (k_V (fun h17 hw => ?_))
    refine r_aload_n C rfl 0 rfl dX1_leastBubbles_22 ?_
    refine r_gfR (k := 0) C kX1 (by decide) (Or.inl q344) (Or.inl rfl) dX1_leastBubbles_23 hw (fun v22 hw => ?_)
    obtain ⟨y23, rfl, hw_y23⟩ := hw
    have hw := hw_y23
    obtain ⟨hq24, hw⟩ := hw
    obtain ⟨k27, k28, hp29, hp30, hw⟩ := hw
    refine r_callV (ci := 1) (rest := []) (As := []) C sg_X2_copy rfl rfl q1761 q1762 q1763 q78 q1764 rfl (Nat.le_of_ble_eq_true rfl) dX1_leastBubbles_26 rfl hq24 hp29 hp30 (c_X2_copy G l k27 k28 y23 h17 _ hw) (k_R (fun r25 h26 hw => ?_))
    refine r_astore_nO (x := r25) (L' := [(3, va_rf r25), (0, .ref a0), (1, .int i1), (2, .int i2)]) C rfl (by decide) rfl dX1_leastBubbles_29 (r_iconst (v := (0 : Int32)) C (by decide) dX1_leastBubbles_30 (r_istore (L' := [(4, .int (0 : Int32)), (3, va_rf r25), (0, .ref a0), (1, .int i1), (2, .int i2)]) C (by decide) (by rcases r25 with _ | _ <;> rfl) dX1_leastBubbles_31 ?_))
    obtain ⟨k9, hw⟩ := hw
    exact r_sub C [3, 4, 1, 0] rfl (b_X1_leastBubbles_33 C _ _ _ _ _ _ _ _ hp29 hp30 hw)
  refine r_if_eq_b (tgt := 18) C (by decide) dX1_leastBubbles_7 (fun hc31 => ?_) (fun hc31 => ?_)
  · have hJ32 := hJ
    try simp only [if_pos hc31] at hJ32
    refine r_iconst (v := (0 : Int32)) C (by decide) dX1_leastBubbles_18 ?_
    exact r_sub C [0, 1, 2] rfl hJ32
  · have hJ32 := hJ
    try simp only [if_neg (show ¬ r14 = false from by rw [hc31]; decide)] at hJ32
    refine r_iload_n C rfl 2 rfl dX1_leastBubbles_10 ?_
    refine r_if_lt (tgt := 18) C (by decide) dX1_leastBubbles_11 (fun hc33 => ?_) (fun hc33 => ?_)
    · have hJ34 := hJ32
      try simp only [if_pos hc33] at hJ34
      refine r_iconst (v := (0 : Int32)) C (by decide) dX1_leastBubbles_18 ?_
      exact r_sub C [0, 1, 2] rfl hJ34
    · have hJ34 := hJ32
      try simp only [if_neg hc33] at hJ34
      refine r_iconst (v := (1 : Int32)) C (by decide) dX1_leastBubbles_14 (r_goto (tgt := 19) C (by decide) dX1_leastBubbles_15 ?_)
      exact r_sub C [0, 1, 2] rfl hJ34
def w_X1_does (mc ms : Nat) (a0 : Nat) (i1 : Int32) (i2 : Int32) (h : Hp) (Q : Bool → Hp → Prop) : Prop :=
  (i1.toInt < 1 ∨ 9 < i1.toInt → Q false h) ∧ (i1 = (1 : Int32) → hasC h a0 1 ∧ (w_X2_hasDie a0 (i2 / (10000 : Int32)) h (fun r2 h3 => (r2 = false → Q false h3) ∧ (r2 = true → w_X1_isYear (i2 - i2 / (10000 : Int32) * (10000 : Int32)) h3 (fun r5 h6 => (r5 = false → Q false h6) ∧ (r5 = true → gfR h6 a0 1 1 (fun v8 => nn v8 (fun y9 => hasC h6 y9 8 ∧ (wj_J2_get y9 (i2 / (10000 : Int32)) h6 (fun r11 h12 => (∀ z13 : Nat, r11 = some z13 → hasC h12 z13 4) ∧ (nn r11 (fun y15 => hasC h12 y15 4 ∧ (∃ k19 k20 : Nat, 0 + k19 ≤ mc ∧ 0 + k20 ≤ ms ∧ (w_X5_canCrack k19 k20 y15 (i2 - i2 / (10000 : Int32) * (10000 : Int32)) h12 (fun r17 h18 => (r17 = false → Q false h18) ∧ (r17 = true → hasC h18 a0 1 ∧ (∃ k27 k28 : Nat, (0 + k19) + k27 ≤ mc ∧ (0 + k20) + k28 ≤ ms ∧ (w_X2_crack k27 k28 a0 (i2 / (10000 : Int32)) (i2 - i2 / (10000 : Int32) * (10000 : Int32)) h18 (fun r25 h26 => Q (if r25 < 0 then false else true) h26))))))))))))))))))) ∧ (i1 = (2 : Int32) → (¬ ((i2 - i2 / (1000 : Int32) * (1000 : Int32)) - (i2 - i2 / (1000 : Int32) * (1000 : Int32)) / (100 : Int32) * (100 : Int32)) = 0 → Q false h) ∧ (((i2 - i2 / (1000 : Int32) * (1000 : Int32)) - (i2 - i2 / (1000 : Int32) * (1000 : Int32)) / (100 : Int32) * (100 : Int32)) = 0 → hasC h a0 1 ∧ (w_X2_hasSeal a0 (i2 / (1000 : Int32)) h (fun r35 h36 => (r35 = false → Q false h36) ∧ (r35 = true → w_X1_isCharter ((i2 - i2 / (1000 : Int32) * (1000 : Int32)) / (100 : Int32)) h36 (fun r38 h39 => (r38 = false → Q false h39) ∧ (r38 = true → hasC h39 a0 1 ∧ (∃ k44 k45 : Nat, 0 + k44 ≤ mc ∧ 0 + k45 ≤ ms ∧ (w_X2_hang k44 k45 a0 (i2 / (1000 : Int32)) ((i2 - i2 / (1000 : Int32) * (1000 : Int32)) / (100 : Int32)) h39 (fun r42 h43 => Q (if r42 ≤ 0 then false else true) h43)))))))))) ∧ (i1 = (3 : Int32) → (¬ (i2 - i2 / (1000 : Int32) * (1000 : Int32)) = 0 → Q false h) ∧ ((i2 - i2 / (1000 : Int32) * (1000 : Int32)) = 0 → hasC h a0 1 ∧ (w_X2_hasSeal a0 (i2 / (1000 : Int32)) h (fun r52 h53 => (r52 = false → Q false h53) ∧ (r52 = true → gfR h53 a0 1 2 (fun v55 => nn v55 (fun y56 => hasC h53 y56 8 ∧ (wj_J2_get y56 (i2 / (1000 : Int32)) h53 (fun r58 h59 => (∀ z60 : Nat, r58 = some z60 → hasC h59 z60 5) ∧ (nn r58 (fun y62 => gfI h59 y62 5 5 (fun v63 => (v63 = (-1 : Int32) → Q false h59) ∧ (¬ v63 = (-1 : Int32) → hasC h59 a0 1 ∧ (w_X2_cut a0 (i2 / (1000 : Int32)) h59 (fun r66 h67 => Q (if r66 < 0 then false else true) h67))))))))))))))) ∧ (i1 = (4 : Int32) → (¬ ((i2 - i2 / (1000 : Int32) * (1000 : Int32)) - (i2 - i2 / (1000 : Int32) * (1000 : Int32)) / (10 : Int32) * (10 : Int32)) = 0 → Q false h) ∧ (((i2 - i2 / (1000 : Int32) * (1000 : Int32)) - (i2 - i2 / (1000 : Int32) * (1000 : Int32)) / (10 : Int32) * (10 : Int32)) = 0 → hasC h a0 1 ∧ (w_X2_hasSeal a0 (i2 / (1000 : Int32)) h (fun r72 h73 => (r72 = false → Q false h73) ∧ (r72 = true → w_X1_isShelf ((i2 - i2 / (1000 : Int32) * (1000 : Int32)) / (100 : Int32)) h73 (fun r75 h76 => (r75 = false → Q false h76) ∧ (r75 = true → hasC h76 a0 1 ∧ (∃ k81 k82 : Nat, 0 + k81 ≤ mc ∧ 0 + k82 ≤ ms ∧ (w_X2_isPlace k81 k82 a0 (i2 / (1000 : Int32)) ((i2 - i2 / (1000 : Int32) * (1000 : Int32)) / (100 : Int32)) (((i2 - i2 / (1000 : Int32) * (1000 : Int32)) / (10 : Int32)) - ((i2 - i2 / (1000 : Int32) * (1000 : Int32)) / (10 : Int32)) / (10 : Int32) * (10 : Int32)) h76 (fun r79 h80 => (r79 = false → Q false h80) ∧ (r79 = true → hasC h80 a0 1 ∧ (∃ k89 k90 : Nat, (0 + k81) + k89 ≤ mc ∧ (0 + k82) + k90 ≤ ms ∧ (w_X2_canShelve k89 k90 a0 (i2 / (1000 : Int32)) ((i2 - i2 / (1000 : Int32) * (1000 : Int32)) / (100 : Int32)) h80 (fun r87 h88 => (r87 = false → Q false h88) ∧ (r87 = true → hasC h88 a0 1 ∧ (∃ k97 k98 : Nat, ((0 + k81) + k89) + k97 ≤ mc ∧ ((0 + k82) + k90) + k98 ≤ ms ∧ (w_X2_shelve k97 k98 a0 (i2 / (1000 : Int32)) ((i2 - i2 / (1000 : Int32) * (1000 : Int32)) / (100 : Int32)) (((i2 - i2 / (1000 : Int32) * (1000 : Int32)) / (10 : Int32)) - ((i2 - i2 / (1000 : Int32) * (1000 : Int32)) / (10 : Int32)) / (10 : Int32) * (10 : Int32)) h88 (fun r95 h96 => Q (if r95 ≤ 0 then false else true) h96)))))))))))))))))) ∧ (i1 = (5 : Int32) → (¬ ((i2 - i2 / (1000 : Int32) * (1000 : Int32)) - (i2 - i2 / (1000 : Int32) * (1000 : Int32)) / (10 : Int32) * (10 : Int32)) = 0 → Q false h) ∧ (((i2 - i2 / (1000 : Int32) * (1000 : Int32)) - (i2 - i2 / (1000 : Int32) * (1000 : Int32)) / (10 : Int32) * (10 : Int32)) = 0 → hasC h a0 1 ∧ (w_X2_canShow a0 (i2 / (1000 : Int32)) ((i2 - i2 / (1000 : Int32) * (1000 : Int32)) / (10 : Int32)) h (fun r105 h106 => (r105 = false → Q false h106) ∧ (r105 = true → hasC h106 a0 1 ∧ (w_X2_show a0 (i2 / (1000 : Int32)) ((i2 - i2 / (1000 : Int32) * (1000 : Int32)) / (10 : Int32)) h106 (fun r109 h110 => Q (if r109 < 0 then false else true) h110))))))) ∧ (i1 = (6 : Int32) → (¬ (i2 - i2 / (10000 : Int32) * (10000 : Int32)) = 0 → Q false h) ∧ ((i2 - i2 / (10000 : Int32) * (10000 : Int32)) = 0 → w_X1_isShelf (i2 / (10000 : Int32)) h (fun r114 h115 => (r114 = false → Q false h115) ∧ (r114 = true → hasC h115 a0 1 ∧ (∃ k120 k121 : Nat, 0 + k120 ≤ mc ∧ 0 + k121 ≤ ms ∧ (w_X2_sort k120 k121 a0 (i2 / (10000 : Int32)) h115 (fun r118 h119 => Q (if r118 < 0 then false else true) h119))))))) ∧ (i1 = (7 : Int32) → (0 < (i2 - i2 / (100 : Int32) * (100 : Int32)) → Q false h) ∧ (¬ 0 < (i2 - i2 / (100 : Int32) * (100 : Int32)) → w_X1_isSetting (i2 / (10000 : Int32)) ((i2 / (100 : Int32)) - (i2 / (100 : Int32)) / (100 : Int32) * (100 : Int32)) h (fun r127 h128 => (r127 = true → gfR h128 a0 1 4 (fun v130 => nn v130 (fun y132 => wrI h128 y132 (i2 / (10000 : Int32)) ((i2 / (100 : Int32)) - (i2 / (100 : Int32)) / (100 : Int32) * (100 : Int32)) (fun h131 => Q true h131)))) ∧ (r127 = false → Q false h128)))) ∧ (i1 = (8 : Int32) → ((100 : Int32) ≤ i2 → Q false h) ∧ (¬ (100 : Int32) ≤ i2 → hasC h a0 1 ∧ (∃ k137 k138 : Nat, 0 + k137 ≤ mc ∧ 0 + k138 ≤ ms ∧ (w_X2_many k137 k138 a0 (-1 : Int32) h (fun r135 h136 => Q (if i2 < r135 then false else true) h136))))) ∧ (i1 = (9 : Int32) → ((10 : Int32) ≤ (i2 - i2 / (1000 : Int32) * (1000 : Int32)) → Q false h) ∧ (¬ (10 : Int32) ≤ (i2 - i2 / (1000 : Int32) * (1000 : Int32)) → hasC h a0 1 ∧ (w_X2_hasSeal a0 (i2 / (1000 : Int32)) h (fun r145 h146 => (r145 = false → Q false h146) ∧ (r145 = true → hasC h146 a0 1 ∧ (∃ k151 k152 : Nat, 0 + k151 ≤ mc ∧ 0 + k152 ≤ ms ∧ (w_X2_fake k151 k152 a0 (i2 / (1000 : Int32)) h146 (fun r149 h150 => Q (if ¬ r149 = (i2 - i2 / (1000 : Int32) * (1000 : Int32)) then false else true) h150))))))))
theorem sg_X1_does : ySg yX1_does 3 = true := by decide +kernel
theorem c_X1_does (G : gT) (l : Launch) (mc ms : Nat) (a0 : Nat) (i1 : Int32) (i2 : Int32) (h : Hp) (Q : Bool → Hp → Prop) (hw : w_X1_does mc ms a0 i1 i2 h Q) : Ct G l yX1_does (ws_ yX1_does cX1_does 6 (some .boolean)) 13 290 mc ms [.ref a0, .int i1, .int i2] h (pZ Q) := by
  refine Ct.of (own := RX1) false (by decide +kernel) rfl (show (_ : Nat) ≤ _ from Nat.le_of_ble_eq_true rfl) (fun z => by cases z) (fun V C => ?_)
  show V h 0 0 0 [(0, .ref a0), (1, .int i1), (2, .int i2)] []
  unfold w_X1_does at hw
  refine r_iload_n C rfl 2 rfl dX1_does_0 (r_sipush (v := (10000 : Int32)) C (by decide) dX1_does_1 (r_idiv C (by decide) dX1_does_4 (r_istore_n (L' := [(3, .int (i2 / (10000 : Int32))), (0, .ref a0), (1, .int i1), (2, .int i2)]) C rfl (by decide) rfl dX1_does_5 (r_iload_n C rfl 3 rfl dX1_does_6 (r_sipush (v := (1000 : Int32)) C (by decide) dX1_does_7 ?_)))))
  refine r_idiv C (by decide) dX1_does_10 (r_istore (L' := [(4, .int (i2 / (1000 : Int32))), (3, .int (i2 / (10000 : Int32))), (0, .ref a0), (1, .int i1), (2, .int i2)]) C (by decide) rfl dX1_does_11 (r_iload_n C rfl 4 rfl dX1_does_13 (r_sipush (v := (1000 : Int32)) C (by decide) dX1_does_14 (r_irem C (by decide) dX1_does_17 (r_istore (L' := [(5, .int (i2 - i2 / (1000 : Int32) * (1000 : Int32))), (4, .int (i2 / (1000 : Int32))), (3, .int (i2 / (10000 : Int32))), (0, .ref a0), (1, .int i1), (2, .int i2)]) C (by decide) rfl dX1_does_18 ?_)))))
  refine r_iload_n C rfl 4 rfl dX1_does_20 ?_
  by_cases hd157 : i1.toInt < 1 ∨ 9 < i1.toInt
  · have hw := hw.1 hd157
    refine r_tableOut (tgt := 487) C hd157 (by decide) dX1_does_21 ?_
    refine r_iconst (v := (0 : Int32)) C (by decide) dX1_does_487 ?_
    exact r_zreturn (x := false) C dX1_does_488 (Nat.zero_le _) (Nat.zero_le _) ⟨_, rfl, hw⟩
  · obtain ⟨k9, hk9, e9⟩ := tb_k 9 (by decide) hd157
    match k9, hk9, e9 with
    | 0, _, e9 =>
      have e9 : i1 = (1 : Int32) := e9.trans (by decide)
      have hw := hw.2.1 e9
      refine r_tableAt (k := (1 : Int32)) (off := 51) (tgt := 72) C e9 (by decide) (by decide) (by decide) (by decide) dX1_does_21 ?_
      refine r_aload_n C rfl 3 rfl dX1_does_72 (r_iload_n C rfl 2 rfl dX1_does_73 ?_)
      obtain ⟨hq1, hw⟩ := hw
      refine r_callV (ci := 1) (rest := []) (As := [.int (i2 / (10000 : Int32))]) C sg_X2_hasDie rfl rfl q881 q882 q883 q78 q884 rfl (Nat.le_of_ble_eq_true rfl) dX1_does_74 rfl hq1 (Nat.zero_le _) (Nat.zero_le _) (c_X2_hasDie G l a0 (i2 / (10000 : Int32)) h _ hw) (k_Z (fun r2 h3 hw => ?_))
      refine r_if_eq_b (tgt := 132) C (by decide) dX1_does_77 (fun hc4 => ?_) (fun hc4 => ?_)
      · have hw := hw.1 hc4
        refine r_iconst (v := (0 : Int32)) C (by decide) dX1_does_132 ?_
        exact r_zreturn (x := false) C dX1_does_133 (Nat.zero_le _) (Nat.zero_le _) ⟨_, rfl, hw⟩
      · have hw := hw.2 hc4
        refine r_iload_n C rfl 5 rfl dX1_does_80 (r_sipush (v := (10000 : Int32)) C (by decide) dX1_does_81 (r_irem C (by decide) dX1_does_84 ?_))
        refine r_callS (rest := []) (As := [.int (i2 - i2 / (10000 : Int32) * (10000 : Int32))]) C sg_X1_isYear q836 q837 q77 q838 rfl (Nat.le_of_ble_eq_true rfl) dX1_does_85 rfl (Nat.zero_le _) (Nat.zero_le _) (c_X1_isYear G l (i2 - i2 / (10000 : Int32) * (10000 : Int32)) h3 _ hw) (k_Z (fun r5 h6 hw => ?_))
        refine r_if_eq_b (tgt := 132) C (by decide) dX1_does_88 (fun hc7 => ?_) (fun hc7 => ?_)
        · have hw := hw.1 hc7
          refine r_iconst (v := (0 : Int32)) C (by decide) dX1_does_132 ?_
          exact r_zreturn (x := false) C dX1_does_133 (Nat.zero_le _) (Nat.zero_le _) ⟨_, rfl, hw⟩
        · have hw := hw.2 hc7
          refine r_aload_n C rfl 3 rfl dX1_does_91 ?_
          refine r_gfR (k := 1) C kX2 (by decide) (Or.inr ⟨_, (List.mem_of_getElem? (i := 4) rfl)⟩) (Or.inl rfl) dX1_does_92 hw (fun v8 hw => ?_)
          refine r_iload_n C rfl 2 rfl dX1_does_95 ?_
          obtain ⟨y9, rfl, hw_y9⟩ := hw
          have hw := hw_y9
          obtain ⟨hq10, hw⟩ := hw
          refine r_callF (ci := 8) (rest := []) (As := [.int (i2 / (10000 : Int32))]) C (x := ⟨"java/util/List", "get", "(I)Ljava/lang/Object;"⟩) (show ySg ⟨"java/util/List", "get", "(I)Ljava/lang/Object;"⟩ 1 = true by decide +kernel) rfl q887 q453 q455 q81 q457 (List.mem_of_getElem? (i := 6) rfl) rfl (Nat.le_of_ble_eq_true rfl) dX1_does_96 rfl hq10 (Nat.zero_le _) (Nat.zero_le _) (cj_J2_get G l y9 (i2 / (10000 : Int32)) h6 _ hw) (k_R (fun r11 h12 hw => ?_))
          obtain ⟨e14, hw⟩ := hw
          refine r_cast (x := r11) C (ci := 4) rfl q888 dX1_does_101 e14 ?_
          refine r_iload_n C rfl 5 rfl dX1_does_104 (r_sipush (v := (10000 : Int32)) C (by decide) dX1_does_105 (r_irem C (by decide) dX1_does_108 ?_))
          obtain ⟨y15, rfl, hw_y15⟩ := hw
          have hw := hw_y15
          obtain ⟨hq16, hw⟩ := hw
          obtain ⟨k19, k20, hp21, hp22, hw⟩ := hw
          refine r_callV (ci := 4) (rest := []) (As := [.int (i2 - i2 / (10000 : Int32) * (10000 : Int32))]) C sg_X5_canCrack rfl rfl q889 q890 q891 q107 q892 rfl (Nat.le_of_ble_eq_true rfl) dX1_does_109 rfl hq16 hp21 hp22 (c_X5_canCrack G l k19 k20 y15 (i2 - i2 / (10000 : Int32) * (10000 : Int32)) h12 _ hw) (k_Z (fun r17 h18 hw => ?_))
          refine r_if_eq_b (tgt := 132) C (by decide) dX1_does_112 (fun hc23 => ?_) (fun hc23 => ?_)
          · have hw := hw.1 hc23
            refine r_iconst (v := (0 : Int32)) C (by decide) dX1_does_132 ?_
            exact r_zreturn (x := false) C dX1_does_133 hp21 hp22 ⟨_, rfl, hw⟩
          · have hw := hw.2 hc23
            refine r_aload_n C rfl 3 rfl dX1_does_115 (r_iload_n C rfl 2 rfl dX1_does_116 (r_iload_n C rfl 5 rfl dX1_does_117 (r_sipush (v := (10000 : Int32)) C (by decide) dX1_does_118 (r_irem C (by decide) dX1_does_121 ?_))))
            obtain ⟨hq24, hw⟩ := hw
            obtain ⟨k27, k28, hp29, hp30, hw⟩ := hw
            refine r_callV (ci := 1) (rest := []) (As := [.int (i2 / (10000 : Int32)), .int (i2 - i2 / (10000 : Int32) * (10000 : Int32))]) C sg_X2_crack rfl rfl q974 q975 q976 q78 q977 rfl (Nat.le_of_ble_eq_true rfl) dX1_does_122 rfl hq24 hp29 hp30 (c_X2_crack G l k27 k28 a0 (i2 / (10000 : Int32)) (i2 - i2 / (10000 : Int32) * (10000 : Int32)) h18 _ hw) (k_I (fun r25 h26 hw => ?_))
            have hJ : V h26 ((0 + k19) + k27) ((0 + k20) + k28) 133 [] [.int (bI (if r25 < 0 then false else true))] := by
              exact r_zreturn (x := (if r25 < 0 then false else true)) C dX1_does_133 hp29 hp30 ⟨_, rfl, hw⟩
            refine r_if_lt (tgt := 132) C (by decide) dX1_does_125 (fun hc31 => ?_) (fun hc31 => ?_)
            · have hJ32 := hJ
              try simp only [if_pos hc31] at hJ32
              refine r_iconst (v := (0 : Int32)) C (by decide) dX1_does_132 ?_
              exact r_sub C [] rfl hJ32
            · have hJ32 := hJ
              try simp only [if_neg hc31] at hJ32
              refine r_iconst (v := (1 : Int32)) C (by decide) dX1_does_128 (r_goto (tgt := 133) C (by decide) dX1_does_129 ?_)
              exact r_sub C [] rfl hJ32
    | 1, _, e9 =>
      have e9 : i1 = (2 : Int32) := e9.trans (by decide)
      have hw := hw.2.2.1 e9
      refine r_tableAt (k := (2 : Int32)) (off := 113) (tgt := 134) C e9 (by decide) (by decide) (by decide) (by decide) dX1_does_21 ?_
      refine r_iload C 0 rfl dX1_does_134 (r_bipush (v := (100 : Int32)) C (by decide) dX1_does_136 (r_irem C (by decide) dX1_does_138 ?_))
      refine r_if_ne (tgt := 180) C (by decide) dX1_does_139 (fun hc33 => ?_) (fun hc33 => ?_)
      · have hw := hw.1 hc33
        refine r_iconst (v := (0 : Int32)) C (by decide) dX1_does_180 ?_
        exact r_zreturn (x := false) C dX1_does_181 (Nat.zero_le _) (Nat.zero_le _) ⟨_, rfl, hw⟩
      · have hw := hw.2 hc33
        refine r_aload_n C rfl 3 rfl dX1_does_142 (r_iload C 1 rfl dX1_does_143 ?_)
        obtain ⟨hq34, hw⟩ := hw
        refine r_callV (ci := 1) (rest := []) (As := [.int (i2 / (1000 : Int32))]) C sg_X2_hasSeal rfl rfl q1035 q1036 q1037 q78 q1038 rfl (Nat.le_of_ble_eq_true rfl) dX1_does_145 rfl hq34 (Nat.zero_le _) (Nat.zero_le _) (c_X2_hasSeal G l a0 (i2 / (1000 : Int32)) h _ hw) (k_Z (fun r35 h36 hw => ?_))
        refine r_if_eq_b (tgt := 180) C (by decide) dX1_does_148 (fun hc37 => ?_) (fun hc37 => ?_)
        · have hw := hw.1 hc37
          refine r_iconst (v := (0 : Int32)) C (by decide) dX1_does_180 ?_
          exact r_zreturn (x := false) C dX1_does_181 (Nat.zero_le _) (Nat.zero_le _) ⟨_, rfl, hw⟩
        · have hw := hw.2 hc37
          refine r_iload C 0 rfl dX1_does_151 (r_bipush (v := (100 : Int32)) C (by decide) dX1_does_153 (r_idiv C (by decide) dX1_does_155 ?_))
          refine r_callS (rest := []) (As := [.int ((i2 - i2 / (1000 : Int32) * (1000 : Int32)) / (100 : Int32))]) C sg_X1_isCharter q1700 q1701 q77 q1702 rfl (Nat.le_of_ble_eq_true rfl) dX1_does_156 rfl (Nat.zero_le _) (Nat.zero_le _) (c_X1_isCharter G l ((i2 - i2 / (1000 : Int32) * (1000 : Int32)) / (100 : Int32)) h36 _ hw) (k_Z (fun r38 h39 hw => ?_))
          refine r_if_eq_b (tgt := 180) C (by decide) dX1_does_159 (fun hc40 => ?_) (fun hc40 => ?_)
          · have hw := hw.1 hc40
            refine r_iconst (v := (0 : Int32)) C (by decide) dX1_does_180 ?_
            exact r_zreturn (x := false) C dX1_does_181 (Nat.zero_le _) (Nat.zero_le _) ⟨_, rfl, hw⟩
          · have hw := hw.2 hc40
            refine r_aload_n C rfl 3 rfl dX1_does_162 (r_iload C 1 rfl dX1_does_163 (r_iload C 0 rfl dX1_does_165 (r_bipush (v := (100 : Int32)) C (by decide) dX1_does_167 (r_idiv C (by decide) dX1_does_169 ?_))))
            obtain ⟨hq41, hw⟩ := hw
            obtain ⟨k44, k45, hp46, hp47, hw⟩ := hw
            refine r_callV (ci := 1) (rest := []) (As := [.int (i2 / (1000 : Int32)), .int ((i2 - i2 / (1000 : Int32) * (1000 : Int32)) / (100 : Int32))]) C sg_X2_hang rfl rfl q1039 q1040 q1041 q78 q1042 rfl (Nat.le_of_ble_eq_true rfl) dX1_does_170 rfl hq41 hp46 hp47 (c_X2_hang G l k44 k45 a0 (i2 / (1000 : Int32)) ((i2 - i2 / (1000 : Int32) * (1000 : Int32)) / (100 : Int32)) h39 _ hw) (k_I (fun r42 h43 hw => ?_))
            have hJ : V h43 (0 + k44) (0 + k45) 181 [] [.int (bI (if r42 ≤ 0 then false else true))] := by
              exact r_zreturn (x := (if r42 ≤ 0 then false else true)) C dX1_does_181 hp46 hp47 ⟨_, rfl, hw⟩
            refine r_if_le (tgt := 180) C (by decide) dX1_does_173 (fun hc48 => ?_) (fun hc48 => ?_)
            · have hJ49 := hJ
              try simp only [if_pos hc48] at hJ49
              refine r_iconst (v := (0 : Int32)) C (by decide) dX1_does_180 ?_
              exact r_sub C [] rfl hJ49
            · have hJ49 := hJ
              try simp only [if_neg hc48] at hJ49
              refine r_iconst (v := (1 : Int32)) C (by decide) dX1_does_176 (r_goto (tgt := 181) C (by decide) dX1_does_177 ?_)
              exact r_sub C [] rfl hJ49
    | 2, _, e9 =>
      have e9 : i1 = (3 : Int32) := e9.trans (by decide)
      have hw := hw.2.2.2.1 e9
      refine r_tableAt (k := (3 : Int32)) (off := 161) (tgt := 182) C e9 (by decide) (by decide) (by decide) (by decide) dX1_does_21 ?_
      refine r_iload C 0 rfl dX1_does_182 ?_
      refine r_if_ne (tgt := 230) C (by decide) dX1_does_184 (fun hc50 => ?_) (fun hc50 => ?_)
      · have hw := hw.1 hc50
        refine r_iconst (v := (0 : Int32)) C (by decide) dX1_does_230 ?_
        exact r_zreturn (x := false) C dX1_does_231 (Nat.zero_le _) (Nat.zero_le _) ⟨_, rfl, hw⟩
      · have hw := hw.2 hc50
        refine r_aload_n C rfl 3 rfl dX1_does_187 (r_iload C 1 rfl dX1_does_188 ?_)
        obtain ⟨hq51, hw⟩ := hw
        refine r_callV (ci := 1) (rest := []) (As := [.int (i2 / (1000 : Int32))]) C sg_X2_hasSeal rfl rfl q1035 q1036 q1037 q78 q1038 rfl (Nat.le_of_ble_eq_true rfl) dX1_does_190 rfl hq51 (Nat.zero_le _) (Nat.zero_le _) (c_X2_hasSeal G l a0 (i2 / (1000 : Int32)) h _ hw) (k_Z (fun r52 h53 hw => ?_))
        refine r_if_eq_b (tgt := 230) C (by decide) dX1_does_193 (fun hc54 => ?_) (fun hc54 => ?_)
        · have hw := hw.1 hc54
          refine r_iconst (v := (0 : Int32)) C (by decide) dX1_does_230 ?_
          exact r_zreturn (x := false) C dX1_does_231 (Nat.zero_le _) (Nat.zero_le _) ⟨_, rfl, hw⟩
        · have hw := hw.2 hc54
          refine r_aload_n C rfl 3 rfl dX1_does_196 ?_
          refine r_gfR (k := 2) C kX2 (by decide) (Or.inr ⟨_, (List.mem_of_getElem? (i := 5) rfl)⟩) (Or.inl rfl) dX1_does_197 hw (fun v55 hw => ?_)
          refine r_iload C 1 rfl dX1_does_200 ?_
          obtain ⟨y56, rfl, hw_y56⟩ := hw
          have hw := hw_y56
          obtain ⟨hq57, hw⟩ := hw
          refine r_callF (ci := 8) (rest := []) (As := [.int (i2 / (1000 : Int32))]) C (x := ⟨"java/util/List", "get", "(I)Ljava/lang/Object;"⟩) (show ySg ⟨"java/util/List", "get", "(I)Ljava/lang/Object;"⟩ 1 = true by decide +kernel) rfl q887 q453 q455 q81 q457 (List.mem_of_getElem? (i := 6) rfl) rfl (Nat.le_of_ble_eq_true rfl) dX1_does_202 rfl hq57 (Nat.zero_le _) (Nat.zero_le _) (cj_J2_get G l y56 (i2 / (1000 : Int32)) h53 _ hw) (k_R (fun r58 h59 hw => ?_))
          obtain ⟨e61, hw⟩ := hw
          refine r_cast (x := r58) C (ci := 5) rfl q1534 dX1_does_207 e61 ?_
          obtain ⟨y62, rfl, hw_y62⟩ := hw
          have hw := hw_y62
          refine r_gfI (k := 5) C kX6 (by decide) (Or.inr ⟨_, (List.mem_of_getElem? (i := 40) rfl)⟩) (Or.inl rfl) dX1_does_210 hw (fun v63 hw => ?_)
          refine r_iconst (v := (-1 : Int32)) C (by decide) dX1_does_213 ?_
          refine r_icmp_eq (tgt := 230) C (by decide) dX1_does_214 (fun hc64 => ?_) (fun hc64 => ?_)
          · have hw := hw.1 hc64
            refine r_iconst (v := (0 : Int32)) C (by decide) dX1_does_230 ?_
            exact r_zreturn (x := false) C dX1_does_231 (Nat.zero_le _) (Nat.zero_le _) ⟨_, rfl, hw⟩
          · have hw := hw.2 hc64
            refine r_aload_n C rfl 3 rfl dX1_does_217 (r_iload C 1 rfl dX1_does_218 ?_)
            obtain ⟨hq65, hw⟩ := hw
            refine r_callV (ci := 1) (rest := []) (As := [.int (i2 / (1000 : Int32))]) C sg_X2_cut rfl rfl q1856 q1857 q1858 q78 q1859 rfl (Nat.le_of_ble_eq_true rfl) dX1_does_220 rfl hq65 (Nat.zero_le _) (Nat.zero_le _) (c_X2_cut G l a0 (i2 / (1000 : Int32)) h59 _ hw) (k_I (fun r66 h67 hw => ?_))
            have hJ : V h67 0 0 231 [] [.int (bI (if r66 < 0 then false else true))] := by
              exact r_zreturn (x := (if r66 < 0 then false else true)) C dX1_does_231 (Nat.zero_le _) (Nat.zero_le _) ⟨_, rfl, hw⟩
            refine r_if_lt (tgt := 230) C (by decide) dX1_does_223 (fun hc68 => ?_) (fun hc68 => ?_)
            · have hJ69 := hJ
              try simp only [if_pos hc68] at hJ69
              refine r_iconst (v := (0 : Int32)) C (by decide) dX1_does_230 ?_
              exact r_sub C [] rfl hJ69
            · have hJ69 := hJ
              try simp only [if_neg hc68] at hJ69
              refine r_iconst (v := (1 : Int32)) C (by decide) dX1_does_226 (r_goto (tgt := 231) C (by decide) dX1_does_227 ?_)
              exact r_sub C [] rfl hJ69
    | 3, _, e9 =>
      have e9 : i1 = (4 : Int32) := e9.trans (by decide)
      have hw := hw.2.2.2.2.1 e9
      refine r_tableAt (k := (4 : Int32)) (off := 211) (tgt := 232) C e9 (by decide) (by decide) (by decide) (by decide) dX1_does_21 ?_
      refine r_iload C 0 rfl dX1_does_232 (r_bipush (v := (10 : Int32)) C (by decide) dX1_does_234 (r_irem C (by decide) dX1_does_236 ?_))
      refine r_if_ne (tgt := 322) C (by decide) dX1_does_237 (fun hc70 => ?_) (fun hc70 => ?_)
      · have hw := hw.1 hc70
        refine r_iconst (v := (0 : Int32)) C (by decide) dX1_does_322 ?_
        exact r_zreturn (x := false) C dX1_does_323 (Nat.zero_le _) (Nat.zero_le _) ⟨_, rfl, hw⟩
      · have hw := hw.2 hc70
        refine r_aload_n C rfl 3 rfl dX1_does_240 (r_iload C 1 rfl dX1_does_241 ?_)
        obtain ⟨hq71, hw⟩ := hw
        refine r_callV (ci := 1) (rest := []) (As := [.int (i2 / (1000 : Int32))]) C sg_X2_hasSeal rfl rfl q1035 q1036 q1037 q78 q1038 rfl (Nat.le_of_ble_eq_true rfl) dX1_does_243 rfl hq71 (Nat.zero_le _) (Nat.zero_le _) (c_X2_hasSeal G l a0 (i2 / (1000 : Int32)) h _ hw) (k_Z (fun r72 h73 hw => ?_))
        refine r_if_eq_b (tgt := 322) C (by decide) dX1_does_246 (fun hc74 => ?_) (fun hc74 => ?_)
        · have hw := hw.1 hc74
          refine r_iconst (v := (0 : Int32)) C (by decide) dX1_does_322 ?_
          exact r_zreturn (x := false) C dX1_does_323 (Nat.zero_le _) (Nat.zero_le _) ⟨_, rfl, hw⟩
        · have hw := hw.2 hc74
          refine r_iload C 0 rfl dX1_does_249 (r_bipush (v := (100 : Int32)) C (by decide) dX1_does_251 (r_idiv C (by decide) dX1_does_253 ?_))
          refine r_callS (rest := []) (As := [.int ((i2 - i2 / (1000 : Int32) * (1000 : Int32)) / (100 : Int32))]) C sg_X1_isShelf q1712 q1713 q77 q1714 rfl (Nat.le_of_ble_eq_true rfl) dX1_does_254 rfl (Nat.zero_le _) (Nat.zero_le _) (c_X1_isShelf G l ((i2 - i2 / (1000 : Int32) * (1000 : Int32)) / (100 : Int32)) h73 _ hw) (k_Z (fun r75 h76 hw => ?_))
          refine r_if_eq_b (tgt := 322) C (by decide) dX1_does_257 (fun hc77 => ?_) (fun hc77 => ?_)
          · have hw := hw.1 hc77
            refine r_iconst (v := (0 : Int32)) C (by decide) dX1_does_322 ?_
            exact r_zreturn (x := false) C dX1_does_323 (Nat.zero_le _) (Nat.zero_le _) ⟨_, rfl, hw⟩
          · have hw := hw.2 hc77
            refine r_aload_n C rfl 3 rfl dX1_does_260 (r_iload C 1 rfl dX1_does_261 (r_iload C 0 rfl dX1_does_263 (r_bipush (v := (100 : Int32)) C (by decide) dX1_does_265 (r_idiv C (by decide) dX1_does_267 (r_iload C 0 rfl dX1_does_268 ?_)))))
            refine r_bipush (v := (10 : Int32)) C (by decide) dX1_does_270 (r_idiv C (by decide) dX1_does_272 (r_bipush (v := (10 : Int32)) C (by decide) dX1_does_273 (r_irem C (by decide) dX1_does_275 ?_)))
            obtain ⟨hq78, hw⟩ := hw
            obtain ⟨k81, k82, hp83, hp84, hw⟩ := hw
            refine r_callV (ci := 1) (rest := []) (As := [.int (i2 / (1000 : Int32)), .int ((i2 - i2 / (1000 : Int32) * (1000 : Int32)) / (100 : Int32)), .int (((i2 - i2 / (1000 : Int32) * (1000 : Int32)) / (10 : Int32)) - ((i2 - i2 / (1000 : Int32) * (1000 : Int32)) / (10 : Int32)) / (10 : Int32) * (10 : Int32))]) C sg_X2_isPlace rfl rfl q1867 q1868 q1869 q78 q1870 rfl (Nat.le_of_ble_eq_true rfl) dX1_does_276 rfl hq78 hp83 hp84 (c_X2_isPlace G l k81 k82 a0 (i2 / (1000 : Int32)) ((i2 - i2 / (1000 : Int32) * (1000 : Int32)) / (100 : Int32)) (((i2 - i2 / (1000 : Int32) * (1000 : Int32)) / (10 : Int32)) - ((i2 - i2 / (1000 : Int32) * (1000 : Int32)) / (10 : Int32)) / (10 : Int32) * (10 : Int32)) h76 _ hw) (k_Z (fun r79 h80 hw => ?_))
            refine r_if_eq_b (tgt := 322) C (by decide) dX1_does_279 (fun hc85 => ?_) (fun hc85 => ?_)
            · have hw := hw.1 hc85
              refine r_iconst (v := (0 : Int32)) C (by decide) dX1_does_322 ?_
              exact r_zreturn (x := false) C dX1_does_323 hp83 hp84 ⟨_, rfl, hw⟩
            · have hw := hw.2 hc85
              refine r_aload_n C rfl 3 rfl dX1_does_282 (r_iload C 1 rfl dX1_does_283 (r_iload C 0 rfl dX1_does_285 (r_bipush (v := (100 : Int32)) C (by decide) dX1_does_287 (r_idiv C (by decide) dX1_does_289 ?_))))
              obtain ⟨hq86, hw⟩ := hw
              obtain ⟨k89, k90, hp91, hp92, hw⟩ := hw
              refine r_callV (ci := 1) (rest := []) (As := [.int (i2 / (1000 : Int32)), .int ((i2 - i2 / (1000 : Int32) * (1000 : Int32)) / (100 : Int32))]) C sg_X2_canShelve rfl rfl q1872 q1873 q1874 q78 q1875 rfl (Nat.le_of_ble_eq_true rfl) dX1_does_290 rfl hq86 hp91 hp92 (c_X2_canShelve G l k89 k90 a0 (i2 / (1000 : Int32)) ((i2 - i2 / (1000 : Int32) * (1000 : Int32)) / (100 : Int32)) h80 _ hw) (k_Z (fun r87 h88 hw => ?_))
              refine r_if_eq_b (tgt := 322) C (by decide) dX1_does_293 (fun hc93 => ?_) (fun hc93 => ?_)
              · have hw := hw.1 hc93
                refine r_iconst (v := (0 : Int32)) C (by decide) dX1_does_322 ?_
                exact r_zreturn (x := false) C dX1_does_323 hp91 hp92 ⟨_, rfl, hw⟩
              · have hw := hw.2 hc93
                refine r_aload_n C rfl 3 rfl dX1_does_296 (r_iload C 1 rfl dX1_does_297 (r_iload C 0 rfl dX1_does_299 (r_bipush (v := (100 : Int32)) C (by decide) dX1_does_301 (r_idiv C (by decide) dX1_does_303 (r_iload C 0 rfl dX1_does_304 ?_)))))
                refine r_bipush (v := (10 : Int32)) C (by decide) dX1_does_306 (r_idiv C (by decide) dX1_does_308 (r_bipush (v := (10 : Int32)) C (by decide) dX1_does_309 (r_irem C (by decide) dX1_does_311 ?_)))
                obtain ⟨hq94, hw⟩ := hw
                obtain ⟨k97, k98, hp99, hp100, hw⟩ := hw
                refine r_callV (ci := 1) (rest := []) (As := [.int (i2 / (1000 : Int32)), .int ((i2 - i2 / (1000 : Int32) * (1000 : Int32)) / (100 : Int32)), .int (((i2 - i2 / (1000 : Int32) * (1000 : Int32)) / (10 : Int32)) - ((i2 - i2 / (1000 : Int32) * (1000 : Int32)) / (10 : Int32)) / (10 : Int32) * (10 : Int32))]) C sg_X2_shelve rfl rfl q1885 q1886 q1887 q78 q1888 rfl (Nat.le_of_ble_eq_true rfl) dX1_does_312 rfl hq94 hp99 hp100 (c_X2_shelve G l k97 k98 a0 (i2 / (1000 : Int32)) ((i2 - i2 / (1000 : Int32) * (1000 : Int32)) / (100 : Int32)) (((i2 - i2 / (1000 : Int32) * (1000 : Int32)) / (10 : Int32)) - ((i2 - i2 / (1000 : Int32) * (1000 : Int32)) / (10 : Int32)) / (10 : Int32) * (10 : Int32)) h88 _ hw) (k_I (fun r95 h96 hw => ?_))
                have hJ : V h96 (((0 + k81) + k89) + k97) (((0 + k82) + k90) + k98) 323 [] [.int (bI (if r95 ≤ 0 then false else true))] := by
                  exact r_zreturn (x := (if r95 ≤ 0 then false else true)) C dX1_does_323 hp99 hp100 ⟨_, rfl, hw⟩
                refine r_if_le (tgt := 322) C (by decide) dX1_does_315 (fun hc101 => ?_) (fun hc101 => ?_)
                · have hJ102 := hJ
                  try simp only [if_pos hc101] at hJ102
                  refine r_iconst (v := (0 : Int32)) C (by decide) dX1_does_322 ?_
                  exact r_sub C [] rfl hJ102
                · have hJ102 := hJ
                  try simp only [if_neg hc101] at hJ102
                  refine r_iconst (v := (1 : Int32)) C (by decide) dX1_does_318 (r_goto (tgt := 323) C (by decide) dX1_does_319 ?_)
                  exact r_sub C [] rfl hJ102
    | 4, _, e9 =>
      have e9 : i1 = (5 : Int32) := e9.trans (by decide)
      have hw := hw.2.2.2.2.2.1 e9
      refine r_tableAt (k := (5 : Int32)) (off := 303) (tgt := 324) C e9 (by decide) (by decide) (by decide) (by decide) dX1_does_21 ?_
      refine r_iload C 0 rfl dX1_does_324 (r_bipush (v := (10 : Int32)) C (by decide) dX1_does_326 (r_irem C (by decide) dX1_does_328 ?_))
      refine r_if_ne (tgt := 364) C (by decide) dX1_does_329 (fun hc103 => ?_) (fun hc103 => ?_)
      · have hw := hw.1 hc103
        refine r_iconst (v := (0 : Int32)) C (by decide) dX1_does_364 ?_
        exact r_zreturn (x := false) C dX1_does_365 (Nat.zero_le _) (Nat.zero_le _) ⟨_, rfl, hw⟩
      · have hw := hw.2 hc103
        refine r_aload_n C rfl 3 rfl dX1_does_332 (r_iload C 1 rfl dX1_does_333 (r_iload C 0 rfl dX1_does_335 (r_bipush (v := (10 : Int32)) C (by decide) dX1_does_337 (r_idiv C (by decide) dX1_does_339 ?_))))
        obtain ⟨hq104, hw⟩ := hw
        refine r_callV (ci := 1) (rest := []) (As := [.int (i2 / (1000 : Int32)), .int ((i2 - i2 / (1000 : Int32) * (1000 : Int32)) / (10 : Int32))]) C sg_X2_canShow rfl rfl q1832 q1833 q1834 q78 q1835 rfl (Nat.le_of_ble_eq_true rfl) dX1_does_340 rfl hq104 (Nat.zero_le _) (Nat.zero_le _) (c_X2_canShow G l a0 (i2 / (1000 : Int32)) ((i2 - i2 / (1000 : Int32) * (1000 : Int32)) / (10 : Int32)) h _ hw) (k_Z (fun r105 h106 hw => ?_))
        refine r_if_eq_b (tgt := 364) C (by decide) dX1_does_343 (fun hc107 => ?_) (fun hc107 => ?_)
        · have hw := hw.1 hc107
          refine r_iconst (v := (0 : Int32)) C (by decide) dX1_does_364 ?_
          exact r_zreturn (x := false) C dX1_does_365 (Nat.zero_le _) (Nat.zero_le _) ⟨_, rfl, hw⟩
        · have hw := hw.2 hc107
          refine r_aload_n C rfl 3 rfl dX1_does_346 (r_iload C 1 rfl dX1_does_347 (r_iload C 0 rfl dX1_does_349 (r_bipush (v := (10 : Int32)) C (by decide) dX1_does_351 (r_idiv C (by decide) dX1_does_353 ?_))))
          obtain ⟨hq108, hw⟩ := hw
          refine r_callV (ci := 1) (rest := []) (As := [.int (i2 / (1000 : Int32)), .int ((i2 - i2 / (1000 : Int32) * (1000 : Int32)) / (10 : Int32))]) C sg_X2_show rfl rfl q1838 q1839 q1840 q78 q1841 rfl (Nat.le_of_ble_eq_true rfl) dX1_does_354 rfl hq108 (Nat.zero_le _) (Nat.zero_le _) (c_X2_show G l a0 (i2 / (1000 : Int32)) ((i2 - i2 / (1000 : Int32) * (1000 : Int32)) / (10 : Int32)) h106 _ hw) (k_I (fun r109 h110 hw => ?_))
          have hJ : V h110 0 0 365 [] [.int (bI (if r109 < 0 then false else true))] := by
            exact r_zreturn (x := (if r109 < 0 then false else true)) C dX1_does_365 (Nat.zero_le _) (Nat.zero_le _) ⟨_, rfl, hw⟩
          refine r_if_lt (tgt := 364) C (by decide) dX1_does_357 (fun hc111 => ?_) (fun hc111 => ?_)
          · have hJ112 := hJ
            try simp only [if_pos hc111] at hJ112
            refine r_iconst (v := (0 : Int32)) C (by decide) dX1_does_364 ?_
            exact r_sub C [] rfl hJ112
          · have hJ112 := hJ
            try simp only [if_neg hc111] at hJ112
            refine r_iconst (v := (1 : Int32)) C (by decide) dX1_does_360 (r_goto (tgt := 365) C (by decide) dX1_does_361 ?_)
            exact r_sub C [] rfl hJ112
    | 5, _, e9 =>
      have e9 : i1 = (6 : Int32) := e9.trans (by decide)
      have hw := hw.2.2.2.2.2.2.1 e9
      refine r_tableAt (k := (6 : Int32)) (off := 345) (tgt := 366) C e9 (by decide) (by decide) (by decide) (by decide) dX1_does_21 ?_
      refine r_iload_n C rfl 5 rfl dX1_does_366 (r_sipush (v := (10000 : Int32)) C (by decide) dX1_does_367 (r_irem C (by decide) dX1_does_370 ?_))
      refine r_if_ne (tgt := 393) C (by decide) dX1_does_371 (fun hc113 => ?_) (fun hc113 => ?_)
      · have hw := hw.1 hc113
        refine r_iconst (v := (0 : Int32)) C (by decide) dX1_does_393 ?_
        exact r_zreturn (x := false) C dX1_does_394 (Nat.zero_le _) (Nat.zero_le _) ⟨_, rfl, hw⟩
      · have hw := hw.2 hc113
        refine r_iload_n C rfl 2 rfl dX1_does_374 ?_
        refine r_callS (rest := []) (As := [.int (i2 / (10000 : Int32))]) C sg_X1_isShelf q1712 q1713 q77 q1714 rfl (Nat.le_of_ble_eq_true rfl) dX1_does_375 rfl (Nat.zero_le _) (Nat.zero_le _) (c_X1_isShelf G l (i2 / (10000 : Int32)) h _ hw) (k_Z (fun r114 h115 hw => ?_))
        refine r_if_eq_b (tgt := 393) C (by decide) dX1_does_378 (fun hc116 => ?_) (fun hc116 => ?_)
        · have hw := hw.1 hc116
          refine r_iconst (v := (0 : Int32)) C (by decide) dX1_does_393 ?_
          exact r_zreturn (x := false) C dX1_does_394 (Nat.zero_le _) (Nat.zero_le _) ⟨_, rfl, hw⟩
        · have hw := hw.2 hc116
          refine r_aload_n C rfl 3 rfl dX1_does_381 (r_iload_n C rfl 2 rfl dX1_does_382 ?_)
          obtain ⟨hq117, hw⟩ := hw
          obtain ⟨k120, k121, hp122, hp123, hw⟩ := hw
          refine r_callV (ci := 1) (rest := []) (As := [.int (i2 / (10000 : Int32))]) C sg_X2_sort rfl rfl q2010 q2011 q2012 q78 q2013 rfl (Nat.le_of_ble_eq_true rfl) dX1_does_383 rfl hq117 hp122 hp123 (c_X2_sort G l k120 k121 a0 (i2 / (10000 : Int32)) h115 _ hw) (k_I (fun r118 h119 hw => ?_))
          have hJ : V h119 (0 + k120) (0 + k121) 394 [] [.int (bI (if r118 < 0 then false else true))] := by
            exact r_zreturn (x := (if r118 < 0 then false else true)) C dX1_does_394 hp122 hp123 ⟨_, rfl, hw⟩
          refine r_if_lt (tgt := 393) C (by decide) dX1_does_386 (fun hc124 => ?_) (fun hc124 => ?_)
          · have hJ125 := hJ
            try simp only [if_pos hc124] at hJ125
            refine r_iconst (v := (0 : Int32)) C (by decide) dX1_does_393 ?_
            exact r_sub C [] rfl hJ125
          · have hJ125 := hJ
            try simp only [if_neg hc124] at hJ125
            refine r_iconst (v := (1 : Int32)) C (by decide) dX1_does_389 (r_goto (tgt := 394) C (by decide) dX1_does_390 ?_)
            exact r_sub C [] rfl hJ125
    | 6, _, e9 =>
      have e9 : i1 = (7 : Int32) := e9.trans (by decide)
      have hw := hw.2.2.2.2.2.2.2.1 e9
      refine r_tableAt (k := (7 : Int32)) (off := 374) (tgt := 395) C e9 (by decide) (by decide) (by decide) (by decide) dX1_does_21 ?_
      refine r_iload_n C rfl 5 rfl dX1_does_395 (r_bipush (v := (100 : Int32)) C (by decide) dX1_does_396 (r_irem C (by decide) dX1_does_398 ?_))
      refine r_if_gt (tgt := 416) C (by decide) dX1_does_399 (fun hc126 => ?_) (fun hc126 => ?_)
      · have hw := hw.1 hc126
        refine r_iconst (v := (0 : Int32)) C (by decide) dX1_does_416 ?_
        exact r_zreturn (x := false) C dX1_does_417 (Nat.zero_le _) (Nat.zero_le _) ⟨_, rfl, hw⟩
      · have hw := hw.2 hc126
        refine r_iload_n C rfl 2 rfl dX1_does_402 (r_iload_n C rfl 5 rfl dX1_does_403 (r_bipush (v := (100 : Int32)) C (by decide) dX1_does_404 (r_idiv C (by decide) dX1_does_406 (r_bipush (v := (100 : Int32)) C (by decide) dX1_does_407 (r_irem C (by decide) dX1_does_409 ?_)))))
        refine r_callS (rest := []) (As := [.int (i2 / (10000 : Int32)), .int ((i2 / (100 : Int32)) - (i2 / (100 : Int32)) / (100 : Int32) * (100 : Int32))]) C sg_X1_isSetting q2036 q2037 q77 q2038 rfl (Nat.le_of_ble_eq_true rfl) dX1_does_410 rfl (Nat.zero_le _) (Nat.zero_le _) (c_X1_isSetting G l (i2 / (10000 : Int32)) ((i2 / (100 : Int32)) - (i2 / (100 : Int32)) / (100 : Int32) * (100 : Int32)) h _ hw) (k_Z (fun r127 h128 hw => ?_))
        refine r_if_ne_b (tgt := 418) C (by decide) dX1_does_413 (fun hc129 => ?_) (fun hc129 => ?_)
        · have hw := hw.1 hc129
          refine r_aload_n C rfl 3 rfl dX1_does_418 ?_
          refine r_gfR (k := 4) C kX2 (by decide) (Or.inr ⟨_, (List.mem_of_getElem? (i := 8) rfl)⟩) (Or.inl rfl) dX1_does_419 hw (fun v130 hw => ?_)
          refine r_iload_n C rfl 2 rfl dX1_does_422 (r_iload_n C rfl 5 rfl dX1_does_423 (r_bipush (v := (100 : Int32)) C (by decide) dX1_does_424 (r_idiv C (by decide) dX1_does_426 (r_bipush (v := (100 : Int32)) C (by decide) dX1_does_427 (r_irem C (by decide) dX1_does_429 ?_)))))
          obtain ⟨y132, rfl, hw_y132⟩ := hw
          have hw := hw_y132
          refine r_iastore C dX1_does_430 hw (fun h131 hw => ?_)
          refine r_iconst (v := (1 : Int32)) C (by decide) dX1_does_431 ?_
          exact r_zreturn (x := true) C dX1_does_432 (Nat.zero_le _) (Nat.zero_le _) ⟨_, rfl, hw⟩
        · have hw := hw.2 hc129
          refine r_iconst (v := (0 : Int32)) C (by decide) dX1_does_416 ?_
          exact r_zreturn (x := false) C dX1_does_417 (Nat.zero_le _) (Nat.zero_le _) ⟨_, rfl, hw⟩
    | 7, _, e9 =>
      have e9 : i1 = (8 : Int32) := e9.trans (by decide)
      have hw := hw.2.2.2.2.2.2.2.2.1 e9
      refine r_tableAt (k := (8 : Int32)) (off := 412) (tgt := 433) C e9 (by decide) (by decide) (by decide) (by decide) dX1_does_21 ?_
      refine r_iload_n C rfl 5 rfl dX1_does_433 (r_bipush (v := (100 : Int32)) C (by decide) dX1_does_434 ?_)
      refine r_icmp_ge (tgt := 452) C (by decide) dX1_does_436 (fun hc133 => ?_) (fun hc133 => ?_)
      · have hw := hw.1 hc133
        refine r_iconst (v := (0 : Int32)) C (by decide) dX1_does_452 ?_
        exact r_zreturn (x := false) C dX1_does_453 (Nat.zero_le _) (Nat.zero_le _) ⟨_, rfl, hw⟩
      · have hw := hw.2 hc133
        refine r_aload_n C rfl 3 rfl dX1_does_439 (r_iconst (v := (-1 : Int32)) C (by decide) dX1_does_440 ?_)
        obtain ⟨hq134, hw⟩ := hw
        obtain ⟨k137, k138, hp139, hp140, hw⟩ := hw
        refine r_callV (ci := 1) (rest := []) (As := [.int (-1 : Int32)]) C sg_X2_many rfl rfl q1379 q1380 q1381 q78 q1382 rfl (Nat.le_of_ble_eq_true rfl) dX1_does_441 rfl hq134 hp139 hp140 (c_X2_many G l k137 k138 a0 (-1 : Int32) h _ hw) (k_I (fun r135 h136 hw => ?_))
        refine r_iload_n C rfl 5 rfl dX1_does_444 ?_
        have hJ : V h136 (0 + k137) (0 + k138) 453 [] [.int (bI (if i2 < r135 then false else true))] := by
          exact r_zreturn (x := (if i2 < r135 then false else true)) C dX1_does_453 hp139 hp140 ⟨_, rfl, hw⟩
        refine r_icmp_gt (tgt := 452) C (by decide) dX1_does_445 (fun hc141 => ?_) (fun hc141 => ?_)
        · have hJ142 := hJ
          try simp only [if_pos hc141] at hJ142
          refine r_iconst (v := (0 : Int32)) C (by decide) dX1_does_452 ?_
          exact r_sub C [] rfl hJ142
        · have hJ142 := hJ
          try simp only [if_neg hc141] at hJ142
          refine r_iconst (v := (1 : Int32)) C (by decide) dX1_does_448 (r_goto (tgt := 453) C (by decide) dX1_does_449 ?_)
          exact r_sub C [] rfl hJ142
    | 8, _, e9 =>
      have e9 : i1 = (9 : Int32) := e9.trans (by decide)
      have hw := hw.2.2.2.2.2.2.2.2.2 e9
      refine r_tableAt (k := (9 : Int32)) (off := 433) (tgt := 454) C e9 (by decide) (by decide) (by decide) (by decide) dX1_does_21 ?_
      refine r_iload C 0 rfl dX1_does_454 (r_bipush (v := (10 : Int32)) C (by decide) dX1_does_456 ?_)
      refine r_icmp_ge (tgt := 485) C (by decide) dX1_does_458 (fun hc143 => ?_) (fun hc143 => ?_)
      · have hw := hw.1 hc143
        refine r_iconst (v := (0 : Int32)) C (by decide) dX1_does_485 ?_
        exact r_zreturn (x := false) C dX1_does_486 (Nat.zero_le _) (Nat.zero_le _) ⟨_, rfl, hw⟩
      · have hw := hw.2 hc143
        refine r_aload_n C rfl 3 rfl dX1_does_461 (r_iload C 1 rfl dX1_does_462 ?_)
        obtain ⟨hq144, hw⟩ := hw
        refine r_callV (ci := 1) (rest := []) (As := [.int (i2 / (1000 : Int32))]) C sg_X2_hasSeal rfl rfl q1035 q1036 q1037 q78 q1038 rfl (Nat.le_of_ble_eq_true rfl) dX1_does_464 rfl hq144 (Nat.zero_le _) (Nat.zero_le _) (c_X2_hasSeal G l a0 (i2 / (1000 : Int32)) h _ hw) (k_Z (fun r145 h146 hw => ?_))
        refine r_if_eq_b (tgt := 485) C (by decide) dX1_does_467 (fun hc147 => ?_) (fun hc147 => ?_)
        · have hw := hw.1 hc147
          refine r_iconst (v := (0 : Int32)) C (by decide) dX1_does_485 ?_
          exact r_zreturn (x := false) C dX1_does_486 (Nat.zero_le _) (Nat.zero_le _) ⟨_, rfl, hw⟩
        · have hw := hw.2 hc147
          refine r_aload_n C rfl 3 rfl dX1_does_470 (r_iload C 1 rfl dX1_does_471 ?_)
          obtain ⟨hq148, hw⟩ := hw
          obtain ⟨k151, k152, hp153, hp154, hw⟩ := hw
          refine r_callV (ci := 1) (rest := []) (As := [.int (i2 / (1000 : Int32))]) C sg_X2_fake rfl rfl q1678 q1679 q1680 q78 q1681 rfl (Nat.le_of_ble_eq_true rfl) dX1_does_473 rfl hq148 hp153 hp154 (c_X2_fake G l k151 k152 a0 (i2 / (1000 : Int32)) h146 _ hw) (k_I (fun r149 h150 hw => ?_))
          refine r_iload C 0 rfl dX1_does_476 ?_
          have hJ : V h150 (0 + k151) (0 + k152) 486 [] [.int (bI (if ¬ r149 = (i2 - i2 / (1000 : Int32) * (1000 : Int32)) then false else true))] := by
            exact r_zreturn (x := (if ¬ r149 = (i2 - i2 / (1000 : Int32) * (1000 : Int32)) then false else true)) C dX1_does_486 hp153 hp154 ⟨_, rfl, hw⟩
          refine r_icmp_ne (tgt := 485) C (by decide) dX1_does_478 (fun hc155 => ?_) (fun hc155 => ?_)
          · have hJ156 := hJ
            try simp only [if_pos hc155] at hJ156
            refine r_iconst (v := (0 : Int32)) C (by decide) dX1_does_485 ?_
            exact r_sub C [] rfl hJ156
          · have hJ156 := hJ
            try simp only [if_neg (show ¬ ¬ r149 = (i2 - i2 / (1000 : Int32) * (1000 : Int32)) from fun z => z hc155)] at hJ156
            refine r_iconst (v := (1 : Int32)) C (by decide) dX1_does_481 (r_goto (tgt := 486) C (by decide) dX1_does_482 ?_)
            exact r_sub C [] rfl hJ156
    | k9 + 9, hk9, _ => exact absurd hk9 (by omega)
def S_X1_runScript_65 (mc ms : Nat) (X : String → Hp → Prop) (Q : Int32 → Hp → Prop) (LA65 : Hp → Nat → Nat → Int32 → Int64 → (Option Nat) → Int64 → Int32 → Prop) (h : Hp) (c : Nat) (n : Nat) (x1 : Int32) (x4 : Int64) (x6 : Option Nat) (x7 : Int64) (x9 : Int32) : Prop :=
  (x1 ≤ x9 → Q (-1 : Int32) h) ∧ (¬ x1 ≤ x9 → ¬ (x4 / (1000000 : Int64)) = 0 ∧ (¬ (x4 / (1000000 : Int64)) = 0 ∧ (nn x6 (fun y22 => ∃ k25 k26 : Nat, c + k25 ≤ mc ∧ n + k26 ≤ ms ∧ (w_X1_does k25 k26 y22 (((x7 / (x4 / (1000000 : Int64))).toInt32) / (100000 : Int32)) (((x7 / (x4 / (1000000 : Int64))).toInt32) - ((x7 / (x4 / (1000000 : Int64))).toInt32) / (100000 : Int32) * (100000 : Int32)) h (fun r23 h24 => (r23 = true → LA65 h24 (c + k25) (n + k26) x1 (x4 / (1000000 : Int64)) (some y22) (x7 - x7 / (x4 / (1000000 : Int64)) * (x4 / (1000000 : Int64))) (x9 + (1 : Int32))) ∧ (r23 = false → Q x9 h24)))))))
def B_X1_runScript_65 (mc ms : Nat) (X : String → Hp → Prop) (Q : Int32 → Hp → Prop) : Nat → Hp → Nat → Nat → Int32 → Int64 → (Option Nat) → Int64 → Int32 → Prop
  | 0, _, _, _, _, _, _, _, _ => False
  | k + 1, h, c, n, x1, x4, x6, x7, x9 => S_X1_runScript_65 mc ms X Q (B_X1_runScript_65 mc ms X Q k) h c n x1 x4 x6 x7 x9
def S_X1_runScript_18 (mc ms : Nat) (X : String → Hp → Prop) (Q : Int32 → Hp → Prop) (LA18 : Hp → Nat → Nat → Nat → Int32 → Int64 → Int64 → Int32 → Prop) (h : Hp) (c : Nat) (n : Nat) (x0 : Nat) (x1 : Int32) (x2 : Int64) (x4 : Int64) (x6 : Int32) : Prop :=
  (x1 ≤ x6 → w_X1_isIn x2 (0 : Int64) (x4 - (1 : Int64)) h (fun r2 h3 => ∃ k6 k7 : Nat, c + k6 ≤ mc ∧ n + k7 ≤ ms ∧ (w_X1_check k6 k7 r2 h3 X (fun h5 => gfR h5 x0 0 0 (fun v10 => nn v10 (fun y11 => hasC h5 y11 1 ∧ (∃ k15 k16 : Nat, (c + k6) + k15 ≤ mc ∧ (n + k7) + k16 ≤ ms ∧ (w_X2_copy k15 k16 y11 h5 (fun r13 h14 => ∃ k9 : Nat, B_X1_runScript_65 mc ms X Q k9 h14 ((c + k6) + k15) ((n + k7) + k16) x1 x4 r13 x2 (0 : Int32)))))))))) ∧ (¬ x1 ≤ x6 → LA18 h c n x0 x1 x2 (x4 * (1000000 : Int64)) (x6 + (1 : Int32)))
def B_X1_runScript_18 (mc ms : Nat) (X : String → Hp → Prop) (Q : Int32 → Hp → Prop) : Nat → Hp → Nat → Nat → Nat → Int32 → Int64 → Int64 → Int32 → Prop
  | 0, _, _, _, _, _, _, _, _ => False
  | k + 1, h, c, n, x0, x1, x2, x4, x6 => S_X1_runScript_18 mc ms X Q (B_X1_runScript_18 mc ms X Q k) h c n x0 x1 x2 x4 x6
def w_X1_runScript (mc ms : Nat) (a0 : Nat) (i1 : Int32) (j2 : Int64) (h : Hp) (X : String → Hp → Prop) (Q : Int32 → Hp → Prop) : Prop :=
  w_X1_isIn i1.toInt64 (1 : Int64) (3 : Int64) h (fun r30 h31 => ∃ k34 k35 : Nat, 0 + k34 ≤ mc ∧ 0 + k35 ≤ ms ∧ (w_X1_check k34 k35 r30 h31 X (fun h33 => ∃ k9 : Nat, B_X1_runScript_18 mc ms X Q k9 h33 (0 + k34) (0 + k35) a0 i1 j2 (1 : Int64) (0 : Int32))))
theorem s_X1_runScript_65 {G : gT} {l : Launch} {V : Hp → Nat → Nat → Nat → List (Nat × Value) → List Value → Prop} {mc ms : Nat} {X : String → Hp → Prop} {Q : Int32 → Hp → Prop} (C : Cx G l V cX1_runScript 11 RX1 14 315 mc ms (pI Q) (some X) (some .int) [] false) (LA65 : Hp → Nat → Nat → Int32 → Int64 → (Option Nat) → Int64 → Int32 → Prop) (hLA65 : ∀ (h : Hp) (c : Nat) (n : Nat) (x1 : Int32) (x4 : Int64) (x6 : Option Nat) (x7 : Int64) (x9 : Int32), c ≤ mc → n ≤ ms → LA65 h c n x1 x4 x6 x7 x9 → V h c n 65 [(1, .int x1), (4, .long x4), (6, va_rf x6), (7, .long x7), (9, .int x9)] []) (h : Hp) (c : Nat) (n : Nat) (x1 : Int32) (x4 : Int64) (x6 : Option Nat) (x7 : Int64) (x9 : Int32) (b1 : c ≤ mc) (b2 : n ≤ ms) (hw : S_X1_runScript_65 mc ms X Q LA65 h c n x1 x4 x6 x7 x9) : V h c n 65 [(1, .int x1), (4, .long x4), (6, va_rf x6), (7, .long x7), (9, .int x9)] [] := by
  unfold S_X1_runScript_65 at hw
  refine r_iload C 4 rfl dX1_runScript_65 (r_iload_n C rfl 0 rfl dX1_runScript_67 ?_)
  refine r_icmp_ge (tgt := 123) C (by decide) dX1_runScript_68 (fun hc19 => ?_) (fun hc19 => ?_)
  · have hw := hw.1 hc19
    refine r_iconst (v := (-1 : Int32)) C (by decide) dX1_runScript_123 ?_
    exact r_ireturn C dX1_runScript_124 b1 b2 ⟨_, rfl, hw⟩
  · have hw := hw.2 hc19
    refine r_lload C 1 rfl dX1_runScript_71 (r_ldc2 (v := (1000000 : Int64)) C q2111 dX1_runScript_73 (r_ldiv C (by decide) dX1_runScript_76 (r_lstore (L' := [(4, .long (x4 / (1000000 : Int64))), (1, .int x1), (6, va_rf x6), (7, .long x7), (9, .int x9)]) C (by decide) rfl dX1_runScript_77 (r_lload C 3 rfl dX1_runScript_79 (r_lload C 0 rfl dX1_runScript_81 ?_)))))
    obtain ⟨hz20, hw⟩ := hw
    refine r_ldiv C hz20 dX1_runScript_83 (r_l2i C dX1_runScript_84 (r_istore (L' := [(10, .int ((x7 / (x4 / (1000000 : Int64))).toInt32)), (4, .long (x4 / (1000000 : Int64))), (1, .int x1), (6, va_rf x6), (7, .long x7), (9, .int x9)]) C (by decide) rfl dX1_runScript_85 (r_lload C 4 rfl dX1_runScript_87 (r_lload C 1 rfl dX1_runScript_89 ?_))))
    obtain ⟨hz21, hw⟩ := hw
    refine r_lrem C hz21 dX1_runScript_91 (r_lstore (L' := [(7, .long (x7 - x7 / (x4 / (1000000 : Int64)) * (x4 / (1000000 : Int64)))), (10, .int ((x7 / (x4 / (1000000 : Int64))).toInt32)), (4, .long (x4 / (1000000 : Int64))), (1, .int x1), (6, va_rf x6), (9, .int x9)]) C (by decide) (by rcases x6 with _ | _ <;> rfl) dX1_runScript_92 (r_aloadO C 4 rfl dX1_runScript_94 (r_iload C 1 rfl dX1_runScript_96 (r_ldc_w (v := (100000 : Int32)) C q2112 dX1_runScript_98 (r_idiv C (by decide) dX1_runScript_101 ?_)))))
    refine r_iload C 1 rfl dX1_runScript_102 (r_ldc_w (v := (100000 : Int32)) C q2112 dX1_runScript_104 (r_irem C (by decide) dX1_runScript_107 ?_))
    obtain ⟨y22, rfl, hw_y22⟩ := hw
    have hw := hw_y22
    obtain ⟨k25, k26, hp27, hp28, hw⟩ := hw
    refine r_callS (rest := []) (As := [.ref y22, .int (((x7 / (x4 / (1000000 : Int64))).toInt32) / (100000 : Int32)), .int (((x7 / (x4 / (1000000 : Int64))).toInt32) - ((x7 / (x4 / (1000000 : Int64))).toInt32) / (100000 : Int32) * (100000 : Int32))]) C sg_X1_does q2113 q2114 q77 q2115 rfl (Nat.le_of_ble_eq_true rfl) dX1_runScript_108 rfl hp27 hp28 (c_X1_does G l k25 k26 y22 (((x7 / (x4 / (1000000 : Int64))).toInt32) / (100000 : Int32)) (((x7 / (x4 / (1000000 : Int64))).toInt32) - ((x7 / (x4 / (1000000 : Int64))).toInt32) / (100000 : Int32) * (100000 : Int32)) h _ hw) (k_Z (fun r23 h24 hw => ?_))
    refine r_if_ne_b (tgt := 117) C (by decide) dX1_runScript_111 (fun hc29 => ?_) (fun hc29 => ?_)
    · have hw := hw.1 hc29
      refine r_iinc (v := x9 + (1 : Int32)) (L' := [(9, .int (x9 + (1 : Int32))), (7, .long (x7 - x7 / (x4 / (1000000 : Int64)) * (x4 / (1000000 : Int64)))), (10, .int ((x7 / (x4 / (1000000 : Int64))).toInt32)), (4, .long (x4 / (1000000 : Int64))), (1, .int x1), (6, .ref y22)]) C (u := 5) rfl (by rfl) (by decide) rfl dX1_runScript_117 (r_goto (tgt := 65) C (by decide) dX1_runScript_120 ?_)
      exact r_sub C [4, 3, 5, 1, 0] rfl (hLA65 _ _ _ _ _ _ _ _ hp27 hp28 hw)
    · have hw := hw.2 hc29
      refine r_iload C 5 rfl dX1_runScript_114 ?_
      exact r_ireturn C dX1_runScript_116 hp27 hp28 ⟨_, rfl, hw⟩
theorem b_X1_runScript_65 {G : gT} {l : Launch} {V : Hp → Nat → Nat → Nat → List (Nat × Value) → List Value → Prop} {mc ms : Nat} {X : String → Hp → Prop} {Q : Int32 → Hp → Prop} (C : Cx G l V cX1_runScript 11 RX1 14 315 mc ms (pI Q) (some X) (some .int) [] false) : ∀ (k : Nat) (h : Hp) (c : Nat) (n : Nat) (x1 : Int32) (x4 : Int64) (x6 : Option Nat) (x7 : Int64) (x9 : Int32), c ≤ mc → n ≤ ms → B_X1_runScript_65 mc ms X Q k h c n x1 x4 x6 x7 x9 → V h c n 65 [(1, .int x1), (4, .long x4), (6, va_rf x6), (7, .long x7), (9, .int x9)] [] := by
  intro k
  induction k with
  | zero =>
    intro h c n x1 x4 x6 x7 x9 b1 b2 hw
    exact hw.elim
  | succ k ih =>
    intro h c n x1 x4 x6 x7 x9 b1 b2 hw
    exact s_X1_runScript_65 C _ (fun h c n x1 x4 x6 x7 x9 b1 b2 hw => ih h c n x1 x4 x6 x7 x9 b1 b2 hw) h c n x1 x4 x6 x7 x9 b1 b2 hw
theorem s_X1_runScript_18 {G : gT} {l : Launch} {V : Hp → Nat → Nat → Nat → List (Nat × Value) → List Value → Prop} {mc ms : Nat} {X : String → Hp → Prop} {Q : Int32 → Hp → Prop} (C : Cx G l V cX1_runScript 11 RX1 14 315 mc ms (pI Q) (some X) (some .int) [] false) (LA18 : Hp → Nat → Nat → Nat → Int32 → Int64 → Int64 → Int32 → Prop) (hLA18 : ∀ (h : Hp) (c : Nat) (n : Nat) (x0 : Nat) (x1 : Int32) (x2 : Int64) (x4 : Int64) (x6 : Int32), c ≤ mc → n ≤ ms → LA18 h c n x0 x1 x2 x4 x6 → V h c n 18 [(0, .ref x0), (1, .int x1), (2, .long x2), (4, .long x4), (6, .int x6)] []) (h : Hp) (c : Nat) (n : Nat) (x0 : Nat) (x1 : Int32) (x2 : Int64) (x4 : Int64) (x6 : Int32) (b1 : c ≤ mc) (b2 : n ≤ ms) (hw : S_X1_runScript_18 mc ms X Q LA18 h c n x0 x1 x2 x4 x6) : V h c n 18 [(0, .ref x0), (1, .int x1), (2, .long x2), (4, .long x4), (6, .int x6)] [] := by
  unfold S_X1_runScript_18 at hw
  refine r_iload C 4 rfl dX1_runScript_18 (r_iload_n C rfl 1 rfl dX1_runScript_20 ?_)
  refine r_icmp_ge (tgt := 38) C (by decide) dX1_runScript_21 (fun hc1 => ?_) (fun hc1 => ?_)
  · have hw := hw.1 hc1
    refine r_lload_n C rfl 2 rfl dX1_runScript_38 (r_lconst (v := (0 : Int64)) C (by decide) dX1_runScript_39 (r_lload C 3 rfl dX1_runScript_40 (r_lconst (v := (1 : Int64)) C (by decide) dX1_runScript_42 (r_lsub C dX1_runScript_43 ?_))))
    refine r_callS (rest := []) (As := [.long x2, .long (0 : Int64), .long (x4 - (1 : Int64))]) C sg_X1_isIn q399 q400 q77 q401 rfl (Nat.le_of_ble_eq_true rfl) dX1_runScript_44 rfl b1 b2 (c_X1_isIn G l x2 (0 : Int64) (x4 - (1 : Int64)) h _ hw) (k_Z (fun r2 h3 hw => ?_))
    obtain ⟨k6, k7, hp8, hp9, hw⟩ := hw
    refine r_callSX (rest := []) (As := [.int (bI r2)]) C sg_X1_check q1332 q1333 q77 q1334 rfl (Nat.le_of_ble_eq_true rfl) dX1_runScript_47 rfl hp8 hp9 (c_X1_check G l k6 k7 r2 h3 X _ (st_C C) hw) (k_V (fun h5 hw => ?_))
    refine r_aload_n C rfl 0 rfl dX1_runScript_50 ?_
    refine r_gfR (k := 0) C kX1 (by decide) (Or.inl q344) (Or.inl rfl) dX1_runScript_51 hw (fun v10 hw => ?_)
    obtain ⟨y11, rfl, hw_y11⟩ := hw
    have hw := hw_y11
    obtain ⟨hq12, hw⟩ := hw
    obtain ⟨k15, k16, hp17, hp18, hw⟩ := hw
    refine r_callV (ci := 1) (rest := []) (As := []) C sg_X2_copy rfl rfl q1761 q1762 q1763 q78 q1764 rfl (Nat.le_of_ble_eq_true rfl) dX1_runScript_54 rfl hq12 hp17 hp18 (c_X2_copy G l k15 k16 y11 h5 _ hw) (k_R (fun r13 h14 hw => ?_))
    refine r_astoreO (x := r13) (L' := [(6, va_rf r13), (0, .ref x0), (1, .int x1), (2, .long x2), (4, .long x4)]) C (by decide) rfl dX1_runScript_57 (r_lload_n C rfl 3 rfl dX1_runScript_59 (r_lstore (L' := [(7, .long x2), (6, va_rf r13), (0, .ref x0), (1, .int x1), (2, .long x2), (4, .long x4)]) C (by decide) (by rcases r13 with _ | _ <;> rfl) dX1_runScript_60 (r_iconst (v := (0 : Int32)) C (by decide) dX1_runScript_62 (r_istore (L' := [(9, .int (0 : Int32)), (7, .long x2), (6, va_rf r13), (0, .ref x0), (1, .int x1), (2, .long x2), (4, .long x4)]) C (by decide) rfl dX1_runScript_63 ?_))))
    obtain ⟨k9, hw⟩ := hw
    exact r_sub C [4, 6, 2, 1, 0] rfl (b_X1_runScript_65 C _ _ _ _ _ _ _ _ _ hp17 hp18 hw)
  · have hw := hw.2 hc1
    refine r_lload C 3 rfl dX1_runScript_24 (r_ldc2 (v := (1000000 : Int64)) C q2111 dX1_runScript_26 (r_lmul C dX1_runScript_29 (r_lstore (L' := [(4, .long (x4 * (1000000 : Int64))), (0, .ref x0), (1, .int x1), (2, .long x2), (6, .int x6)]) C (by decide) rfl dX1_runScript_30 (r_iinc (v := x6 + (1 : Int32)) (L' := [(6, .int (x6 + (1 : Int32))), (4, .long (x4 * (1000000 : Int64))), (0, .ref x0), (1, .int x1), (2, .long x2)]) C (u := 4) rfl (by rfl) (by decide) rfl dX1_runScript_32 (r_goto (tgt := 18) C (by decide) dX1_runScript_35 ?_)))))
    exact r_sub C [2, 3, 4, 1, 0] rfl (hLA18 _ _ _ _ _ _ _ _ b1 b2 hw)
theorem b_X1_runScript_18 {G : gT} {l : Launch} {V : Hp → Nat → Nat → Nat → List (Nat × Value) → List Value → Prop} {mc ms : Nat} {X : String → Hp → Prop} {Q : Int32 → Hp → Prop} (C : Cx G l V cX1_runScript 11 RX1 14 315 mc ms (pI Q) (some X) (some .int) [] false) : ∀ (k : Nat) (h : Hp) (c : Nat) (n : Nat) (x0 : Nat) (x1 : Int32) (x2 : Int64) (x4 : Int64) (x6 : Int32), c ≤ mc → n ≤ ms → B_X1_runScript_18 mc ms X Q k h c n x0 x1 x2 x4 x6 → V h c n 18 [(0, .ref x0), (1, .int x1), (2, .long x2), (4, .long x4), (6, .int x6)] [] := by
  intro k
  induction k with
  | zero =>
    intro h c n x0 x1 x2 x4 x6 b1 b2 hw
    exact hw.elim
  | succ k ih =>
    intro h c n x0 x1 x2 x4 x6 b1 b2 hw
    exact s_X1_runScript_18 C _ (fun h c n x0 x1 x2 x4 x6 b1 b2 hw => ih h c n x0 x1 x2 x4 x6 b1 b2 hw) h c n x0 x1 x2 x4 x6 b1 b2 hw
theorem sg_X1_runScript : ySg yX1_runScript 2 = true := by decide +kernel
theorem c_X1_runScript (G : gT) (l : Launch) (mc ms : Nat) (a0 : Nat) (i1 : Int32) (j2 : Int64) (h : Hp) (X : String → Hp → Prop) (Q : Int32 → Hp → Prop) (hst : l.stackTraces = false) (hw : w_X1_runScript mc ms a0 i1 j2 h X Q) : CtX G l yX1_runScript (ws_ yX1_runScript cX1_runScript 11 (some .int)) 14 315 mc ms [.ref a0, .int i1, .long j2] h (pI Q) X := by
  refine CtX.of (own := RX1) hst (by decide +kernel) rfl (show (_ : Nat) ≤ _ from Nat.le_of_ble_eq_true rfl) (fun V C => ?_)
  show V h 0 0 0 [(0, .ref a0), (1, .int i1), (2, .long j2)] []
  unfold w_X1_runScript at hw
  refine r_iload_n C rfl 1 rfl dX1_runScript_0 (r_i2l C dX1_runScript_1 (r_lconst (v := (1 : Int64)) C (by decide) dX1_runScript_2 (r_ldc2 (v := (3 : Int64)) C q1651 dX1_runScript_3 ?_)))
  refine r_callS (rest := []) (As := [.long i1.toInt64, .long (1 : Int64), .long (3 : Int64)]) C sg_X1_isIn q399 q400 q77 q401 rfl (Nat.le_of_ble_eq_true rfl) dX1_runScript_6 rfl (Nat.zero_le _) (Nat.zero_le _) (c_X1_isIn G l i1.toInt64 (1 : Int64) (3 : Int64) h _ hw) (k_Z (fun r30 h31 hw => ?_))
  obtain ⟨k34, k35, hp36, hp37, hw⟩ := hw
  refine r_callSX (rest := []) (As := [.int (bI r30)]) C sg_X1_check q1332 q1333 q77 q1334 rfl (Nat.le_of_ble_eq_true rfl) dX1_runScript_9 rfl hp36 hp37 (c_X1_check G l k34 k35 r30 h31 X _ (st_C C) hw) (k_V (fun h33 hw => ?_))
  refine r_lconst (v := (1 : Int64)) C (by decide) dX1_runScript_12 (r_lstore (L' := [(4, .long (1 : Int64)), (0, .ref a0), (1, .int i1), (2, .long j2)]) C (by decide) rfl dX1_runScript_13 (r_iconst (v := (0 : Int32)) C (by decide) dX1_runScript_15 (r_istore (L' := [(6, .int (0 : Int32)), (4, .long (1 : Int64)), (0, .ref a0), (1, .int i1), (2, .long j2)]) C (by decide) rfl dX1_runScript_16 ?_)))
  obtain ⟨k9, hw⟩ := hw
  exact r_sub C [2, 3, 4, 1, 0] rfl (b_X1_runScript_18 C _ _ _ _ _ _ _ _ _ hp36 hp37 hw)
def w_X1_turn (mc ms : Nat) (a0 : Nat) (i1 : Int32) (h : Hp) (Q : Hp → Prop) : Prop :=
  ((i1 - i1 / (8 : Int32) * (8 : Int32)).toInt < 0 ∨ 6 < (i1 - i1 / (8 : Int32) * (8 : Int32)).toInt → hasC h a0 1 ∧ (∃ k109 k110 : Nat, 0 + k109 ≤ mc ∧ 0 + k110 ≤ ms ∧ (w_X2_sort k109 k110 a0 ((i1 / (8 : Int32)) - (i1 / (8 : Int32)) / (6 : Int32) * (6 : Int32)) h (fun r107 h108 => Q h108)))) ∧ ((i1 - i1 / (8 : Int32) * (8 : Int32)) = (0 : Int32) → hasC h a0 1 ∧ (w_X2_hasDie a0 ((i1 / (8 : Int32)) - (i1 / (8 : Int32)) / (10 : Int32) * (10 : Int32)) h (fun r2 h3 => (r2 = false → Q h3) ∧ (r2 = true → gfR h3 a0 1 2 (fun v5 => nn v5 (fun y6 => hasC h3 y6 8 ∧ (wj_J2_size y6 h3 (fun r8 h9 => ((24 : Int32) ≤ r8 → Q h9) ∧ (¬ (24 : Int32) ≤ r8 → hasC h9 a0 1 ∧ (∃ k14 k15 : Nat, 0 + k14 ≤ mc ∧ 0 + k15 ≤ ms ∧ (w_X2_seal k14 k15 a0 ((i1 / (8 : Int32)) - (i1 / (8 : Int32)) / (10 : Int32) * (10 : Int32)) (((i1 / (8 : Int32)) / (16 : Int32)) - ((i1 / (8 : Int32)) / (16 : Int32)) / (2 : Int32) * (2 : Int32)) ((((i1 / (8 : Int32)) / (32 : Int32)) - ((i1 / (8 : Int32)) / (32 : Int32)) / (9 : Int32) * (9 : Int32)) - (1 : Int32)) (((i1 / (8 : Int32)) / (512 : Int32)) - ((i1 / (8 : Int32)) / (512 : Int32)) / (20 : Int32) * (20 : Int32)) (0 : Int32) h9 (fun r12 h13 => Q h13)))))))))))) ∧ ((i1 - i1 / (8 : Int32) * (8 : Int32)) = (1 : Int32) → hasC h a0 1 ∧ (w_X2_hasDie a0 ((i1 / (8 : Int32)) - (i1 / (8 : Int32)) / (10 : Int32) * (10 : Int32)) h (fun r19 h20 => (r19 = false → Q h20) ∧ (r19 = true → gfR h20 a0 1 2 (fun v22 => nn v22 (fun y23 => hasC h20 y23 8 ∧ (wj_J2_size y23 h20 (fun r25 h26 => ((24 : Int32) ≤ r25 → Q h26) ∧ (¬ (24 : Int32) ≤ r25 → hasC h26 a0 1 ∧ (∃ k31 k32 : Nat, 0 + k31 ≤ mc ∧ 0 + k32 ≤ ms ∧ (w_X2_seal k31 k32 a0 ((i1 / (8 : Int32)) - (i1 / (8 : Int32)) / (10 : Int32) * (10 : Int32)) (((i1 / (8 : Int32)) / (16 : Int32)) - ((i1 / (8 : Int32)) / (16 : Int32)) / (2 : Int32) * (2 : Int32)) ((((i1 / (8 : Int32)) / (32 : Int32)) - ((i1 / (8 : Int32)) / (32 : Int32)) / (9 : Int32) * (9 : Int32)) - (1 : Int32)) (((i1 / (8 : Int32)) / (512 : Int32)) - ((i1 / (8 : Int32)) / (512 : Int32)) / (20 : Int32) * (20 : Int32)) (0 : Int32) h26 (fun r29 h30 => Q h30)))))))))))) ∧ ((i1 - i1 / (8 : Int32) * (8 : Int32)) = (2 : Int32) → hasC h a0 1 ∧ (w_X2_hasDie a0 ((i1 / (8 : Int32)) - (i1 / (8 : Int32)) / (10 : Int32) * (10 : Int32)) h (fun r36 h37 => (r36 = false → Q h37) ∧ (r36 = true → gfR h37 a0 1 1 (fun v39 => nn v39 (fun y40 => hasC h37 y40 8 ∧ (wj_J2_get y40 ((i1 / (8 : Int32)) - (i1 / (8 : Int32)) / (10 : Int32) * (10 : Int32)) h37 (fun r42 h43 => (∀ z44 : Nat, r42 = some z44 → hasC h43 z44 4) ∧ (nn r42 (fun y46 => hasC h43 y46 4 ∧ (∃ k50 k51 : Nat, 0 + k50 ≤ mc ∧ 0 + k51 ≤ ms ∧ (w_X5_canCrack k50 k51 y46 ((1000 : Int32) + (((i1 / (8 : Int32)) / (16 : Int32)) - ((i1 / (8 : Int32)) / (16 : Int32)) / (1000 : Int32) * (1000 : Int32))) h43 (fun r48 h49 => (r48 = false → Q h49) ∧ (r48 = true → hasC h49 a0 1 ∧ (∃ k58 k59 : Nat, (0 + k50) + k58 ≤ mc ∧ (0 + k51) + k59 ≤ ms ∧ (w_X2_crack k58 k59 a0 ((i1 / (8 : Int32)) - (i1 / (8 : Int32)) / (10 : Int32) * (10 : Int32)) ((1000 : Int32) + (((i1 / (8 : Int32)) / (16 : Int32)) - ((i1 / (8 : Int32)) / (16 : Int32)) / (1000 : Int32) * (1000 : Int32))) h49 (fun r56 h57 => Q h57))))))))))))))))) ∧ ((i1 - i1 / (8 : Int32) * (8 : Int32)) = (3 : Int32) → hasC h a0 1 ∧ (w_X2_canShow a0 ((i1 / (8 : Int32)) - (i1 / (8 : Int32)) / (24 : Int32) * (24 : Int32)) (((i1 / (8 : Int32)) / (32 : Int32)) - ((i1 / (8 : Int32)) / (32 : Int32)) / (16 : Int32) * (16 : Int32)) h (fun r63 h64 => (r63 = false → Q h64) ∧ (r63 = true → hasC h64 a0 1 ∧ (w_X2_show a0 ((i1 / (8 : Int32)) - (i1 / (8 : Int32)) / (24 : Int32) * (24 : Int32)) (((i1 / (8 : Int32)) / (32 : Int32)) - ((i1 / (8 : Int32)) / (32 : Int32)) / (16 : Int32) * (16 : Int32)) h64 (fun r67 h68 => Q h68)))))) ∧ ((i1 - i1 / (8 : Int32) * (8 : Int32)) = (4 : Int32) → hasC h a0 1 ∧ (w_X2_hasSeal a0 ((i1 / (8 : Int32)) - (i1 / (8 : Int32)) / (24 : Int32) * (24 : Int32)) h (fun r70 h71 => (r70 = false → Q h71) ∧ (r70 = true → hasC h71 a0 1 ∧ (∃ k76 k77 : Nat, 0 + k76 ≤ mc ∧ 0 + k77 ≤ ms ∧ (w_X2_hang k76 k77 a0 ((i1 / (8 : Int32)) - (i1 / (8 : Int32)) / (24 : Int32) * (24 : Int32)) (((i1 / (8 : Int32)) / (32 : Int32)) - ((i1 / (8 : Int32)) / (32 : Int32)) / (6 : Int32) * (6 : Int32)) h71 (fun r74 h75 => Q h75))))))) ∧ ((i1 - i1 / (8 : Int32) * (8 : Int32)) = (5 : Int32) → hasC h a0 1 ∧ (w_X2_hasSeal a0 ((i1 / (8 : Int32)) - (i1 / (8 : Int32)) / (24 : Int32) * (24 : Int32)) h (fun r81 h82 => (r81 = false → Q h82) ∧ (r81 = true → hasC h82 a0 1 ∧ (∃ k87 k88 : Nat, 0 + k87 ≤ mc ∧ 0 + k88 ≤ ms ∧ (w_X2_canShelve k87 k88 a0 ((i1 / (8 : Int32)) - (i1 / (8 : Int32)) / (24 : Int32) * (24 : Int32)) (((i1 / (8 : Int32)) / (32 : Int32)) - ((i1 / (8 : Int32)) / (32 : Int32)) / (6 : Int32) * (6 : Int32)) h82 (fun r85 h86 => (r85 = false → Q h86) ∧ (r85 = true → hasC h86 a0 1 ∧ (∃ k95 k96 : Nat, (0 + k87) + k95 ≤ mc ∧ (0 + k88) + k96 ≤ ms ∧ (w_X2_shelve k95 k96 a0 ((i1 / (8 : Int32)) - (i1 / (8 : Int32)) / (24 : Int32) * (24 : Int32)) (((i1 / (8 : Int32)) / (32 : Int32)) - ((i1 / (8 : Int32)) / (32 : Int32)) / (6 : Int32) * (6 : Int32)) (0 : Int32) h86 (fun r93 h94 => Q h94))))))))))) ∧ ((i1 - i1 / (8 : Int32) * (8 : Int32)) = (6 : Int32) → hasC h a0 1 ∧ (w_X2_hasSeal a0 ((i1 / (8 : Int32)) - (i1 / (8 : Int32)) / (24 : Int32) * (24 : Int32)) h (fun r100 h101 => (r100 = false → Q h101) ∧ (r100 = true → hasC h101 a0 1 ∧ (w_X2_cut a0 ((i1 / (8 : Int32)) - (i1 / (8 : Int32)) / (24 : Int32) * (24 : Int32)) h101 (fun r104 h105 => Q h105))))))
theorem sg_X1_turn : ySg yX1_turn 2 = true := by decide +kernel
theorem c_X1_turn (G : gT) (l : Launch) (mc ms : Nat) (a0 : Nat) (i1 : Int32) (h : Hp) (Q : Hp → Prop) (hw : w_X1_turn mc ms a0 i1 h Q) : Ct G l yX1_turn (ws_ yX1_turn cX1_turn 5 (none)) 13 290 mc ms [.ref a0, .int i1] h (pV Q) := by
  refine Ct.of (own := RX1) false (by decide +kernel) rfl (show (_ : Nat) ≤ _ from Nat.le_of_ble_eq_true rfl) (fun z => by cases z) (fun V C => ?_)
  show V h 0 0 0 [(0, .ref a0), (1, .int i1)] []
  unfold w_X1_turn at hw
  refine r_iload_n C rfl 1 rfl dX1_turn_0 (r_bipush (v := (8 : Int32)) C (by decide) dX1_turn_1 (r_idiv C (by decide) dX1_turn_3 (r_istore_n (L' := [(2, .int (i1 / (8 : Int32))), (0, .ref a0), (1, .int i1)]) C rfl (by decide) rfl dX1_turn_4 (r_iload_n C rfl 0 rfl dX1_turn_5 (r_bipush (v := (10 : Int32)) C (by decide) dX1_turn_6 ?_)))))
  refine r_irem C (by decide) dX1_turn_8 (r_istore_n (L' := [(3, .int ((i1 / (8 : Int32)) - (i1 / (8 : Int32)) / (10 : Int32) * (10 : Int32))), (2, .int (i1 / (8 : Int32))), (0, .ref a0), (1, .int i1)]) C rfl (by decide) rfl dX1_turn_9 (r_iload_n C rfl 1 rfl dX1_turn_10 (r_bipush (v := (24 : Int32)) C (by decide) dX1_turn_11 (r_irem C (by decide) dX1_turn_13 (r_istore (L' := [(4, .int ((i1 / (8 : Int32)) - (i1 / (8 : Int32)) / (24 : Int32) * (24 : Int32))), (3, .int ((i1 / (8 : Int32)) - (i1 / (8 : Int32)) / (10 : Int32) * (10 : Int32))), (2, .int (i1 / (8 : Int32))), (0, .ref a0), (1, .int i1)]) C (by decide) rfl dX1_turn_14 ?_)))))
  refine r_iload_n C rfl 4 rfl dX1_turn_16 (r_bipush (v := (8 : Int32)) C (by decide) dX1_turn_17 (r_irem C (by decide) dX1_turn_19 ?_))
  by_cases hd113 : (i1 - i1 / (8 : Int32) * (8 : Int32)).toInt < 0 ∨ 6 < (i1 - i1 / (8 : Int32) * (8 : Int32)).toInt
  · have hw := hw.1 hd113
    refine r_tableOut (tgt := 300) C hd113 (by decide) dX1_turn_20 ?_
    refine r_aload_n C rfl 3 rfl dX1_turn_300 (r_iload_n C rfl 2 rfl dX1_turn_301 (r_bipush (v := (6 : Int32)) C (by decide) dX1_turn_302 (r_irem C (by decide) dX1_turn_304 ?_)))
    obtain ⟨hq106, hw⟩ := hw
    obtain ⟨k109, k110, hp111, hp112, hw⟩ := hw
    refine r_callV (ci := 1) (rest := []) (As := [.int ((i1 / (8 : Int32)) - (i1 / (8 : Int32)) / (6 : Int32) * (6 : Int32))]) C sg_X2_sort rfl rfl q2010 q2011 q2012 q78 q2013 rfl (Nat.le_of_ble_eq_true rfl) dX1_turn_305 rfl hq106 hp111 hp112 (c_X2_sort G l k109 k110 a0 ((i1 / (8 : Int32)) - (i1 / (8 : Int32)) / (6 : Int32) * (6 : Int32)) h _ hw) (k_I (fun r107 h108 hw => ?_))
    refine r_pop C rfl dX1_turn_308 ?_
    exact r_return C dX1_turn_309 hp111 hp112 ⟨rfl, hw⟩
  · obtain ⟨k9, hk9, e9⟩ := tb_k 7 (by decide) hd113
    match k9, hk9, e9 with
    | 0, _, e9 =>
      have e9 : i1 - i1 / (8 : Int32) * (8 : Int32) = (0 : Int32) := e9.trans (by decide)
      have hw := hw.2.1 e9
      refine r_tableAt (k := (0 : Int32)) (off := 44) (tgt := 64) C e9 (by decide) (by decide) (by decide) (by decide) dX1_turn_20 ?_
      refine r_aload_n C rfl 3 rfl dX1_turn_64 (r_iload_n C rfl 1 rfl dX1_turn_65 ?_)
      obtain ⟨hq1, hw⟩ := hw
      refine r_callV (ci := 1) (rest := []) (As := [.int ((i1 / (8 : Int32)) - (i1 / (8 : Int32)) / (10 : Int32) * (10 : Int32))]) C sg_X2_hasDie rfl rfl q881 q882 q883 q78 q884 rfl (Nat.le_of_ble_eq_true rfl) dX1_turn_66 rfl hq1 (Nat.zero_le _) (Nat.zero_le _) (c_X2_hasDie G l a0 ((i1 / (8 : Int32)) - (i1 / (8 : Int32)) / (10 : Int32) * (10 : Int32)) h _ hw) (k_Z (fun r2 h3 hw => ?_))
      refine r_if_eq_b (tgt := 309) C (by decide) dX1_turn_69 (fun hc4 => ?_) (fun hc4 => ?_)
      · have hw := hw.1 hc4
        exact r_return C dX1_turn_309 (Nat.zero_le _) (Nat.zero_le _) ⟨rfl, hw⟩
      · have hw := hw.2 hc4
        refine r_aload_n C rfl 3 rfl dX1_turn_72 ?_
        refine r_gfR (k := 2) C kX2 (by decide) (Or.inr ⟨_, (List.mem_of_getElem? (i := 5) rfl)⟩) (Or.inl rfl) dX1_turn_73 hw (fun v5 hw => ?_)
        obtain ⟨y6, rfl, hw_y6⟩ := hw
        have hw := hw_y6
        obtain ⟨hq7, hw⟩ := hw
        refine r_callF (ci := 8) (rest := []) (As := []) C (x := ⟨"java/util/List", "size", "()I"⟩) (show ySg ⟨"java/util/List", "size", "()I"⟩ 0 = true by decide +kernel) rfl q842 q414 q416 q81 q418 (List.mem_of_getElem? (i := 2) rfl) rfl (Nat.le_of_ble_eq_true rfl) dX1_turn_76 rfl hq7 (Nat.zero_le _) (Nat.zero_le _) (cj_J2_size G l y6 h3 _ hw) (k_I (fun r8 h9 hw => ?_))
        refine r_bipush (v := (24 : Int32)) C (by decide) dX1_turn_81 ?_
        refine r_icmp_ge (tgt := 309) C (by decide) dX1_turn_83 (fun hc10 => ?_) (fun hc10 => ?_)
        · have hw := hw.1 hc10
          exact r_return C dX1_turn_309 (Nat.zero_le _) (Nat.zero_le _) ⟨rfl, hw⟩
        · have hw := hw.2 hc10
          refine r_aload_n C rfl 3 rfl dX1_turn_86 (r_iload_n C rfl 1 rfl dX1_turn_87 (r_iload_n C rfl 2 rfl dX1_turn_88 (r_bipush (v := (16 : Int32)) C (by decide) dX1_turn_89 (r_idiv C (by decide) dX1_turn_91 (r_iconst (v := (2 : Int32)) C (by decide) dX1_turn_92 ?_)))))
          refine r_irem C (by decide) dX1_turn_93 (r_iload_n C rfl 2 rfl dX1_turn_94 (r_bipush (v := (32 : Int32)) C (by decide) dX1_turn_95 (r_idiv C (by decide) dX1_turn_97 (r_bipush (v := (9 : Int32)) C (by decide) dX1_turn_98 (r_irem C (by decide) dX1_turn_100 ?_)))))
          refine r_iconst (v := (1 : Int32)) C (by decide) dX1_turn_101 (r_isub C dX1_turn_102 (r_iload_n C rfl 2 rfl dX1_turn_103 (r_sipush (v := (512 : Int32)) C (by decide) dX1_turn_104 (r_idiv C (by decide) dX1_turn_107 (r_bipush (v := (20 : Int32)) C (by decide) dX1_turn_108 ?_)))))
          refine r_irem C (by decide) dX1_turn_110 (r_iconst (v := (0 : Int32)) C (by decide) dX1_turn_111 ?_)
          obtain ⟨hq11, hw⟩ := hw
          obtain ⟨k14, k15, hp16, hp17, hw⟩ := hw
          refine r_callV (ci := 1) (rest := []) (As := [.int ((i1 / (8 : Int32)) - (i1 / (8 : Int32)) / (10 : Int32) * (10 : Int32)), .int (((i1 / (8 : Int32)) / (16 : Int32)) - ((i1 / (8 : Int32)) / (16 : Int32)) / (2 : Int32) * (2 : Int32)), .int ((((i1 / (8 : Int32)) / (32 : Int32)) - ((i1 / (8 : Int32)) / (32 : Int32)) / (9 : Int32) * (9 : Int32)) - (1 : Int32)), .int (((i1 / (8 : Int32)) / (512 : Int32)) - ((i1 / (8 : Int32)) / (512 : Int32)) / (20 : Int32) * (20 : Int32)), .int (0 : Int32)]) C sg_X2_seal rfl rfl q988 q989 q990 q78 q991 rfl (Nat.le_of_ble_eq_true rfl) dX1_turn_112 rfl hq11 hp16 hp17 (c_X2_seal G l k14 k15 a0 ((i1 / (8 : Int32)) - (i1 / (8 : Int32)) / (10 : Int32) * (10 : Int32)) (((i1 / (8 : Int32)) / (16 : Int32)) - ((i1 / (8 : Int32)) / (16 : Int32)) / (2 : Int32) * (2 : Int32)) ((((i1 / (8 : Int32)) / (32 : Int32)) - ((i1 / (8 : Int32)) / (32 : Int32)) / (9 : Int32) * (9 : Int32)) - (1 : Int32)) (((i1 / (8 : Int32)) / (512 : Int32)) - ((i1 / (8 : Int32)) / (512 : Int32)) / (20 : Int32) * (20 : Int32)) (0 : Int32) h9 _ hw) (k_I (fun r12 h13 hw => ?_))
          refine r_pop C rfl dX1_turn_115 (r_goto (tgt := 309) C (by decide) dX1_turn_116 ?_)
          exact r_return C dX1_turn_309 hp16 hp17 ⟨rfl, hw⟩
    | 1, _, e9 =>
      have e9 : i1 - i1 / (8 : Int32) * (8 : Int32) = (1 : Int32) := e9.trans (by decide)
      have hw := hw.2.2.1 e9
      refine r_tableAt (k := (1 : Int32)) (off := 44) (tgt := 64) C e9 (by decide) (by decide) (by decide) (by decide) dX1_turn_20 ?_
      refine r_aload_n C rfl 3 rfl dX1_turn_64 (r_iload_n C rfl 1 rfl dX1_turn_65 ?_)
      obtain ⟨hq18, hw⟩ := hw
      refine r_callV (ci := 1) (rest := []) (As := [.int ((i1 / (8 : Int32)) - (i1 / (8 : Int32)) / (10 : Int32) * (10 : Int32))]) C sg_X2_hasDie rfl rfl q881 q882 q883 q78 q884 rfl (Nat.le_of_ble_eq_true rfl) dX1_turn_66 rfl hq18 (Nat.zero_le _) (Nat.zero_le _) (c_X2_hasDie G l a0 ((i1 / (8 : Int32)) - (i1 / (8 : Int32)) / (10 : Int32) * (10 : Int32)) h _ hw) (k_Z (fun r19 h20 hw => ?_))
      refine r_if_eq_b (tgt := 309) C (by decide) dX1_turn_69 (fun hc21 => ?_) (fun hc21 => ?_)
      · have hw := hw.1 hc21
        exact r_return C dX1_turn_309 (Nat.zero_le _) (Nat.zero_le _) ⟨rfl, hw⟩
      · have hw := hw.2 hc21
        refine r_aload_n C rfl 3 rfl dX1_turn_72 ?_
        refine r_gfR (k := 2) C kX2 (by decide) (Or.inr ⟨_, (List.mem_of_getElem? (i := 5) rfl)⟩) (Or.inl rfl) dX1_turn_73 hw (fun v22 hw => ?_)
        obtain ⟨y23, rfl, hw_y23⟩ := hw
        have hw := hw_y23
        obtain ⟨hq24, hw⟩ := hw
        refine r_callF (ci := 8) (rest := []) (As := []) C (x := ⟨"java/util/List", "size", "()I"⟩) (show ySg ⟨"java/util/List", "size", "()I"⟩ 0 = true by decide +kernel) rfl q842 q414 q416 q81 q418 (List.mem_of_getElem? (i := 2) rfl) rfl (Nat.le_of_ble_eq_true rfl) dX1_turn_76 rfl hq24 (Nat.zero_le _) (Nat.zero_le _) (cj_J2_size G l y23 h20 _ hw) (k_I (fun r25 h26 hw => ?_))
        refine r_bipush (v := (24 : Int32)) C (by decide) dX1_turn_81 ?_
        refine r_icmp_ge (tgt := 309) C (by decide) dX1_turn_83 (fun hc27 => ?_) (fun hc27 => ?_)
        · have hw := hw.1 hc27
          exact r_return C dX1_turn_309 (Nat.zero_le _) (Nat.zero_le _) ⟨rfl, hw⟩
        · have hw := hw.2 hc27
          refine r_aload_n C rfl 3 rfl dX1_turn_86 (r_iload_n C rfl 1 rfl dX1_turn_87 (r_iload_n C rfl 2 rfl dX1_turn_88 (r_bipush (v := (16 : Int32)) C (by decide) dX1_turn_89 (r_idiv C (by decide) dX1_turn_91 (r_iconst (v := (2 : Int32)) C (by decide) dX1_turn_92 ?_)))))
          refine r_irem C (by decide) dX1_turn_93 (r_iload_n C rfl 2 rfl dX1_turn_94 (r_bipush (v := (32 : Int32)) C (by decide) dX1_turn_95 (r_idiv C (by decide) dX1_turn_97 (r_bipush (v := (9 : Int32)) C (by decide) dX1_turn_98 (r_irem C (by decide) dX1_turn_100 ?_)))))
          refine r_iconst (v := (1 : Int32)) C (by decide) dX1_turn_101 (r_isub C dX1_turn_102 (r_iload_n C rfl 2 rfl dX1_turn_103 (r_sipush (v := (512 : Int32)) C (by decide) dX1_turn_104 (r_idiv C (by decide) dX1_turn_107 (r_bipush (v := (20 : Int32)) C (by decide) dX1_turn_108 ?_)))))
          refine r_irem C (by decide) dX1_turn_110 (r_iconst (v := (0 : Int32)) C (by decide) dX1_turn_111 ?_)
          obtain ⟨hq28, hw⟩ := hw
          obtain ⟨k31, k32, hp33, hp34, hw⟩ := hw
          refine r_callV (ci := 1) (rest := []) (As := [.int ((i1 / (8 : Int32)) - (i1 / (8 : Int32)) / (10 : Int32) * (10 : Int32)), .int (((i1 / (8 : Int32)) / (16 : Int32)) - ((i1 / (8 : Int32)) / (16 : Int32)) / (2 : Int32) * (2 : Int32)), .int ((((i1 / (8 : Int32)) / (32 : Int32)) - ((i1 / (8 : Int32)) / (32 : Int32)) / (9 : Int32) * (9 : Int32)) - (1 : Int32)), .int (((i1 / (8 : Int32)) / (512 : Int32)) - ((i1 / (8 : Int32)) / (512 : Int32)) / (20 : Int32) * (20 : Int32)), .int (0 : Int32)]) C sg_X2_seal rfl rfl q988 q989 q990 q78 q991 rfl (Nat.le_of_ble_eq_true rfl) dX1_turn_112 rfl hq28 hp33 hp34 (c_X2_seal G l k31 k32 a0 ((i1 / (8 : Int32)) - (i1 / (8 : Int32)) / (10 : Int32) * (10 : Int32)) (((i1 / (8 : Int32)) / (16 : Int32)) - ((i1 / (8 : Int32)) / (16 : Int32)) / (2 : Int32) * (2 : Int32)) ((((i1 / (8 : Int32)) / (32 : Int32)) - ((i1 / (8 : Int32)) / (32 : Int32)) / (9 : Int32) * (9 : Int32)) - (1 : Int32)) (((i1 / (8 : Int32)) / (512 : Int32)) - ((i1 / (8 : Int32)) / (512 : Int32)) / (20 : Int32) * (20 : Int32)) (0 : Int32) h26 _ hw) (k_I (fun r29 h30 hw => ?_))
          refine r_pop C rfl dX1_turn_115 (r_goto (tgt := 309) C (by decide) dX1_turn_116 ?_)
          exact r_return C dX1_turn_309 hp33 hp34 ⟨rfl, hw⟩
    | 2, _, e9 =>
      have e9 : i1 - i1 / (8 : Int32) * (8 : Int32) = (2 : Int32) := e9.trans (by decide)
      have hw := hw.2.2.2.1 e9
      refine r_tableAt (k := (2 : Int32)) (off := 99) (tgt := 119) C e9 (by decide) (by decide) (by decide) (by decide) dX1_turn_20 ?_
      refine r_aload_n C rfl 3 rfl dX1_turn_119 (r_iload_n C rfl 1 rfl dX1_turn_120 ?_)
      obtain ⟨hq35, hw⟩ := hw
      refine r_callV (ci := 1) (rest := []) (As := [.int ((i1 / (8 : Int32)) - (i1 / (8 : Int32)) / (10 : Int32) * (10 : Int32))]) C sg_X2_hasDie rfl rfl q881 q882 q883 q78 q884 rfl (Nat.le_of_ble_eq_true rfl) dX1_turn_121 rfl hq35 (Nat.zero_le _) (Nat.zero_le _) (c_X2_hasDie G l a0 ((i1 / (8 : Int32)) - (i1 / (8 : Int32)) / (10 : Int32) * (10 : Int32)) h _ hw) (k_Z (fun r36 h37 hw => ?_))
      refine r_if_eq_b (tgt := 309) C (by decide) dX1_turn_124 (fun hc38 => ?_) (fun hc38 => ?_)
      · have hw := hw.1 hc38
        exact r_return C dX1_turn_309 (Nat.zero_le _) (Nat.zero_le _) ⟨rfl, hw⟩
      · have hw := hw.2 hc38
        refine r_aload_n C rfl 3 rfl dX1_turn_127 ?_
        refine r_gfR (k := 1) C kX2 (by decide) (Or.inr ⟨_, (List.mem_of_getElem? (i := 4) rfl)⟩) (Or.inl rfl) dX1_turn_128 hw (fun v39 hw => ?_)
        refine r_iload_n C rfl 1 rfl dX1_turn_131 ?_
        obtain ⟨y40, rfl, hw_y40⟩ := hw
        have hw := hw_y40
        obtain ⟨hq41, hw⟩ := hw
        refine r_callF (ci := 8) (rest := []) (As := [.int ((i1 / (8 : Int32)) - (i1 / (8 : Int32)) / (10 : Int32) * (10 : Int32))]) C (x := ⟨"java/util/List", "get", "(I)Ljava/lang/Object;"⟩) (show ySg ⟨"java/util/List", "get", "(I)Ljava/lang/Object;"⟩ 1 = true by decide +kernel) rfl q887 q453 q455 q81 q457 (List.mem_of_getElem? (i := 6) rfl) rfl (Nat.le_of_ble_eq_true rfl) dX1_turn_132 rfl hq41 (Nat.zero_le _) (Nat.zero_le _) (cj_J2_get G l y40 ((i1 / (8 : Int32)) - (i1 / (8 : Int32)) / (10 : Int32) * (10 : Int32)) h37 _ hw) (k_R (fun r42 h43 hw => ?_))
        obtain ⟨e45, hw⟩ := hw
        refine r_cast (x := r42) C (ci := 4) rfl q888 dX1_turn_137 e45 ?_
        refine r_sipush (v := (1000 : Int32)) C (by decide) dX1_turn_140 (r_iload_n C rfl 2 rfl dX1_turn_143 (r_bipush (v := (16 : Int32)) C (by decide) dX1_turn_144 (r_idiv C (by decide) dX1_turn_146 (r_sipush (v := (1000 : Int32)) C (by decide) dX1_turn_147 (r_irem C (by decide) dX1_turn_150 ?_)))))
        refine r_iadd C dX1_turn_151 ?_
        obtain ⟨y46, rfl, hw_y46⟩ := hw
        have hw := hw_y46
        obtain ⟨hq47, hw⟩ := hw
        obtain ⟨k50, k51, hp52, hp53, hw⟩ := hw
        refine r_callV (ci := 4) (rest := []) (As := [.int ((1000 : Int32) + (((i1 / (8 : Int32)) / (16 : Int32)) - ((i1 / (8 : Int32)) / (16 : Int32)) / (1000 : Int32) * (1000 : Int32)))]) C sg_X5_canCrack rfl rfl q889 q890 q891 q107 q892 rfl (Nat.le_of_ble_eq_true rfl) dX1_turn_152 rfl hq47 hp52 hp53 (c_X5_canCrack G l k50 k51 y46 ((1000 : Int32) + (((i1 / (8 : Int32)) / (16 : Int32)) - ((i1 / (8 : Int32)) / (16 : Int32)) / (1000 : Int32) * (1000 : Int32))) h43 _ hw) (k_Z (fun r48 h49 hw => ?_))
        refine r_if_eq_b (tgt := 309) C (by decide) dX1_turn_155 (fun hc54 => ?_) (fun hc54 => ?_)
        · have hw := hw.1 hc54
          exact r_return C dX1_turn_309 hp52 hp53 ⟨rfl, hw⟩
        · have hw := hw.2 hc54
          refine r_aload_n C rfl 3 rfl dX1_turn_158 (r_iload_n C rfl 1 rfl dX1_turn_159 (r_sipush (v := (1000 : Int32)) C (by decide) dX1_turn_160 (r_iload_n C rfl 2 rfl dX1_turn_163 (r_bipush (v := (16 : Int32)) C (by decide) dX1_turn_164 (r_idiv C (by decide) dX1_turn_166 ?_)))))
          refine r_sipush (v := (1000 : Int32)) C (by decide) dX1_turn_167 (r_irem C (by decide) dX1_turn_170 (r_iadd C dX1_turn_171 ?_))
          obtain ⟨hq55, hw⟩ := hw
          obtain ⟨k58, k59, hp60, hp61, hw⟩ := hw
          refine r_callV (ci := 1) (rest := []) (As := [.int ((i1 / (8 : Int32)) - (i1 / (8 : Int32)) / (10 : Int32) * (10 : Int32)), .int ((1000 : Int32) + (((i1 / (8 : Int32)) / (16 : Int32)) - ((i1 / (8 : Int32)) / (16 : Int32)) / (1000 : Int32) * (1000 : Int32)))]) C sg_X2_crack rfl rfl q974 q975 q976 q78 q977 rfl (Nat.le_of_ble_eq_true rfl) dX1_turn_172 rfl hq55 hp60 hp61 (c_X2_crack G l k58 k59 a0 ((i1 / (8 : Int32)) - (i1 / (8 : Int32)) / (10 : Int32) * (10 : Int32)) ((1000 : Int32) + (((i1 / (8 : Int32)) / (16 : Int32)) - ((i1 / (8 : Int32)) / (16 : Int32)) / (1000 : Int32) * (1000 : Int32))) h49 _ hw) (k_I (fun r56 h57 hw => ?_))
          refine r_pop C rfl dX1_turn_175 (r_goto (tgt := 309) C (by decide) dX1_turn_176 ?_)
          exact r_return C dX1_turn_309 hp60 hp61 ⟨rfl, hw⟩
    | 3, _, e9 =>
      have e9 : i1 - i1 / (8 : Int32) * (8 : Int32) = (3 : Int32) := e9.trans (by decide)
      have hw := hw.2.2.2.2.1 e9
      refine r_tableAt (k := (3 : Int32)) (off := 159) (tgt := 179) C e9 (by decide) (by decide) (by decide) (by decide) dX1_turn_20 ?_
      refine r_aload_n C rfl 3 rfl dX1_turn_179 (r_iload C 0 rfl dX1_turn_180 (r_iload_n C rfl 2 rfl dX1_turn_182 (r_bipush (v := (32 : Int32)) C (by decide) dX1_turn_183 (r_idiv C (by decide) dX1_turn_185 (r_bipush (v := (16 : Int32)) C (by decide) dX1_turn_186 ?_)))))
      refine r_irem C (by decide) dX1_turn_188 ?_
      obtain ⟨hq62, hw⟩ := hw
      refine r_callV (ci := 1) (rest := []) (As := [.int ((i1 / (8 : Int32)) - (i1 / (8 : Int32)) / (24 : Int32) * (24 : Int32)), .int (((i1 / (8 : Int32)) / (32 : Int32)) - ((i1 / (8 : Int32)) / (32 : Int32)) / (16 : Int32) * (16 : Int32))]) C sg_X2_canShow rfl rfl q1832 q1833 q1834 q78 q1835 rfl (Nat.le_of_ble_eq_true rfl) dX1_turn_189 rfl hq62 (Nat.zero_le _) (Nat.zero_le _) (c_X2_canShow G l a0 ((i1 / (8 : Int32)) - (i1 / (8 : Int32)) / (24 : Int32) * (24 : Int32)) (((i1 / (8 : Int32)) / (32 : Int32)) - ((i1 / (8 : Int32)) / (32 : Int32)) / (16 : Int32) * (16 : Int32)) h _ hw) (k_Z (fun r63 h64 hw => ?_))
      refine r_if_eq_b (tgt := 309) C (by decide) dX1_turn_192 (fun hc65 => ?_) (fun hc65 => ?_)
      · have hw := hw.1 hc65
        exact r_return C dX1_turn_309 (Nat.zero_le _) (Nat.zero_le _) ⟨rfl, hw⟩
      · have hw := hw.2 hc65
        refine r_aload_n C rfl 3 rfl dX1_turn_195 (r_iload C 0 rfl dX1_turn_196 (r_iload_n C rfl 2 rfl dX1_turn_198 (r_bipush (v := (32 : Int32)) C (by decide) dX1_turn_199 (r_idiv C (by decide) dX1_turn_201 (r_bipush (v := (16 : Int32)) C (by decide) dX1_turn_202 ?_)))))
        refine r_irem C (by decide) dX1_turn_204 ?_
        obtain ⟨hq66, hw⟩ := hw
        refine r_callV (ci := 1) (rest := []) (As := [.int ((i1 / (8 : Int32)) - (i1 / (8 : Int32)) / (24 : Int32) * (24 : Int32)), .int (((i1 / (8 : Int32)) / (32 : Int32)) - ((i1 / (8 : Int32)) / (32 : Int32)) / (16 : Int32) * (16 : Int32))]) C sg_X2_show rfl rfl q1838 q1839 q1840 q78 q1841 rfl (Nat.le_of_ble_eq_true rfl) dX1_turn_205 rfl hq66 (Nat.zero_le _) (Nat.zero_le _) (c_X2_show G l a0 ((i1 / (8 : Int32)) - (i1 / (8 : Int32)) / (24 : Int32) * (24 : Int32)) (((i1 / (8 : Int32)) / (32 : Int32)) - ((i1 / (8 : Int32)) / (32 : Int32)) / (16 : Int32) * (16 : Int32)) h64 _ hw) (k_I (fun r67 h68 hw => ?_))
        refine r_pop C rfl dX1_turn_208 (r_goto (tgt := 309) C (by decide) dX1_turn_209 ?_)
        exact r_return C dX1_turn_309 (Nat.zero_le _) (Nat.zero_le _) ⟨rfl, hw⟩
    | 4, _, e9 =>
      have e9 : i1 - i1 / (8 : Int32) * (8 : Int32) = (4 : Int32) := e9.trans (by decide)
      have hw := hw.2.2.2.2.2.1 e9
      refine r_tableAt (k := (4 : Int32)) (off := 192) (tgt := 212) C e9 (by decide) (by decide) (by decide) (by decide) dX1_turn_20 ?_
      refine r_aload_n C rfl 3 rfl dX1_turn_212 (r_iload C 0 rfl dX1_turn_213 ?_)
      obtain ⟨hq69, hw⟩ := hw
      refine r_callV (ci := 1) (rest := []) (As := [.int ((i1 / (8 : Int32)) - (i1 / (8 : Int32)) / (24 : Int32) * (24 : Int32))]) C sg_X2_hasSeal rfl rfl q1035 q1036 q1037 q78 q1038 rfl (Nat.le_of_ble_eq_true rfl) dX1_turn_215 rfl hq69 (Nat.zero_le _) (Nat.zero_le _) (c_X2_hasSeal G l a0 ((i1 / (8 : Int32)) - (i1 / (8 : Int32)) / (24 : Int32) * (24 : Int32)) h _ hw) (k_Z (fun r70 h71 hw => ?_))
      refine r_if_eq_b (tgt := 309) C (by decide) dX1_turn_218 (fun hc72 => ?_) (fun hc72 => ?_)
      · have hw := hw.1 hc72
        exact r_return C dX1_turn_309 (Nat.zero_le _) (Nat.zero_le _) ⟨rfl, hw⟩
      · have hw := hw.2 hc72
        refine r_aload_n C rfl 3 rfl dX1_turn_221 (r_iload C 0 rfl dX1_turn_222 (r_iload_n C rfl 2 rfl dX1_turn_224 (r_bipush (v := (32 : Int32)) C (by decide) dX1_turn_225 (r_idiv C (by decide) dX1_turn_227 (r_bipush (v := (6 : Int32)) C (by decide) dX1_turn_228 ?_)))))
        refine r_irem C (by decide) dX1_turn_230 ?_
        obtain ⟨hq73, hw⟩ := hw
        obtain ⟨k76, k77, hp78, hp79, hw⟩ := hw
        refine r_callV (ci := 1) (rest := []) (As := [.int ((i1 / (8 : Int32)) - (i1 / (8 : Int32)) / (24 : Int32) * (24 : Int32)), .int (((i1 / (8 : Int32)) / (32 : Int32)) - ((i1 / (8 : Int32)) / (32 : Int32)) / (6 : Int32) * (6 : Int32))]) C sg_X2_hang rfl rfl q1039 q1040 q1041 q78 q1042 rfl (Nat.le_of_ble_eq_true rfl) dX1_turn_231 rfl hq73 hp78 hp79 (c_X2_hang G l k76 k77 a0 ((i1 / (8 : Int32)) - (i1 / (8 : Int32)) / (24 : Int32) * (24 : Int32)) (((i1 / (8 : Int32)) / (32 : Int32)) - ((i1 / (8 : Int32)) / (32 : Int32)) / (6 : Int32) * (6 : Int32)) h71 _ hw) (k_I (fun r74 h75 hw => ?_))
        refine r_pop C rfl dX1_turn_234 (r_goto (tgt := 309) C (by decide) dX1_turn_235 ?_)
        exact r_return C dX1_turn_309 hp78 hp79 ⟨rfl, hw⟩
    | 5, _, e9 =>
      have e9 : i1 - i1 / (8 : Int32) * (8 : Int32) = (5 : Int32) := e9.trans (by decide)
      have hw := hw.2.2.2.2.2.2.1 e9
      refine r_tableAt (k := (5 : Int32)) (off := 218) (tgt := 238) C e9 (by decide) (by decide) (by decide) (by decide) dX1_turn_20 ?_
      refine r_aload_n C rfl 3 rfl dX1_turn_238 (r_iload C 0 rfl dX1_turn_239 ?_)
      obtain ⟨hq80, hw⟩ := hw
      refine r_callV (ci := 1) (rest := []) (As := [.int ((i1 / (8 : Int32)) - (i1 / (8 : Int32)) / (24 : Int32) * (24 : Int32))]) C sg_X2_hasSeal rfl rfl q1035 q1036 q1037 q78 q1038 rfl (Nat.le_of_ble_eq_true rfl) dX1_turn_241 rfl hq80 (Nat.zero_le _) (Nat.zero_le _) (c_X2_hasSeal G l a0 ((i1 / (8 : Int32)) - (i1 / (8 : Int32)) / (24 : Int32) * (24 : Int32)) h _ hw) (k_Z (fun r81 h82 hw => ?_))
      refine r_if_eq_b (tgt := 309) C (by decide) dX1_turn_244 (fun hc83 => ?_) (fun hc83 => ?_)
      · have hw := hw.1 hc83
        exact r_return C dX1_turn_309 (Nat.zero_le _) (Nat.zero_le _) ⟨rfl, hw⟩
      · have hw := hw.2 hc83
        refine r_aload_n C rfl 3 rfl dX1_turn_247 (r_iload C 0 rfl dX1_turn_248 (r_iload_n C rfl 2 rfl dX1_turn_250 (r_bipush (v := (32 : Int32)) C (by decide) dX1_turn_251 (r_idiv C (by decide) dX1_turn_253 (r_bipush (v := (6 : Int32)) C (by decide) dX1_turn_254 ?_)))))
        refine r_irem C (by decide) dX1_turn_256 ?_
        obtain ⟨hq84, hw⟩ := hw
        obtain ⟨k87, k88, hp89, hp90, hw⟩ := hw
        refine r_callV (ci := 1) (rest := []) (As := [.int ((i1 / (8 : Int32)) - (i1 / (8 : Int32)) / (24 : Int32) * (24 : Int32)), .int (((i1 / (8 : Int32)) / (32 : Int32)) - ((i1 / (8 : Int32)) / (32 : Int32)) / (6 : Int32) * (6 : Int32))]) C sg_X2_canShelve rfl rfl q1872 q1873 q1874 q78 q1875 rfl (Nat.le_of_ble_eq_true rfl) dX1_turn_257 rfl hq84 hp89 hp90 (c_X2_canShelve G l k87 k88 a0 ((i1 / (8 : Int32)) - (i1 / (8 : Int32)) / (24 : Int32) * (24 : Int32)) (((i1 / (8 : Int32)) / (32 : Int32)) - ((i1 / (8 : Int32)) / (32 : Int32)) / (6 : Int32) * (6 : Int32)) h82 _ hw) (k_Z (fun r85 h86 hw => ?_))
        refine r_if_eq_b (tgt := 309) C (by decide) dX1_turn_260 (fun hc91 => ?_) (fun hc91 => ?_)
        · have hw := hw.1 hc91
          exact r_return C dX1_turn_309 hp89 hp90 ⟨rfl, hw⟩
        · have hw := hw.2 hc91
          refine r_aload_n C rfl 3 rfl dX1_turn_263 (r_iload C 0 rfl dX1_turn_264 (r_iload_n C rfl 2 rfl dX1_turn_266 (r_bipush (v := (32 : Int32)) C (by decide) dX1_turn_267 (r_idiv C (by decide) dX1_turn_269 (r_bipush (v := (6 : Int32)) C (by decide) dX1_turn_270 ?_)))))
          refine r_irem C (by decide) dX1_turn_272 (r_iconst (v := (0 : Int32)) C (by decide) dX1_turn_273 ?_)
          obtain ⟨hq92, hw⟩ := hw
          obtain ⟨k95, k96, hp97, hp98, hw⟩ := hw
          refine r_callV (ci := 1) (rest := []) (As := [.int ((i1 / (8 : Int32)) - (i1 / (8 : Int32)) / (24 : Int32) * (24 : Int32)), .int (((i1 / (8 : Int32)) / (32 : Int32)) - ((i1 / (8 : Int32)) / (32 : Int32)) / (6 : Int32) * (6 : Int32)), .int (0 : Int32)]) C sg_X2_shelve rfl rfl q1885 q1886 q1887 q78 q1888 rfl (Nat.le_of_ble_eq_true rfl) dX1_turn_274 rfl hq92 hp97 hp98 (c_X2_shelve G l k95 k96 a0 ((i1 / (8 : Int32)) - (i1 / (8 : Int32)) / (24 : Int32) * (24 : Int32)) (((i1 / (8 : Int32)) / (32 : Int32)) - ((i1 / (8 : Int32)) / (32 : Int32)) / (6 : Int32) * (6 : Int32)) (0 : Int32) h86 _ hw) (k_I (fun r93 h94 hw => ?_))
          refine r_pop C rfl dX1_turn_277 (r_goto (tgt := 309) C (by decide) dX1_turn_278 ?_)
          exact r_return C dX1_turn_309 hp97 hp98 ⟨rfl, hw⟩
    | 6, _, e9 =>
      have e9 : i1 - i1 / (8 : Int32) * (8 : Int32) = (6 : Int32) := e9.trans (by decide)
      have hw := hw.2.2.2.2.2.2.2 e9
      refine r_tableAt (k := (6 : Int32)) (off := 261) (tgt := 281) C e9 (by decide) (by decide) (by decide) (by decide) dX1_turn_20 ?_
      refine r_aload_n C rfl 3 rfl dX1_turn_281 (r_iload C 0 rfl dX1_turn_282 ?_)
      obtain ⟨hq99, hw⟩ := hw
      refine r_callV (ci := 1) (rest := []) (As := [.int ((i1 / (8 : Int32)) - (i1 / (8 : Int32)) / (24 : Int32) * (24 : Int32))]) C sg_X2_hasSeal rfl rfl q1035 q1036 q1037 q78 q1038 rfl (Nat.le_of_ble_eq_true rfl) dX1_turn_284 rfl hq99 (Nat.zero_le _) (Nat.zero_le _) (c_X2_hasSeal G l a0 ((i1 / (8 : Int32)) - (i1 / (8 : Int32)) / (24 : Int32) * (24 : Int32)) h _ hw) (k_Z (fun r100 h101 hw => ?_))
      refine r_if_eq_b (tgt := 309) C (by decide) dX1_turn_287 (fun hc102 => ?_) (fun hc102 => ?_)
      · have hw := hw.1 hc102
        exact r_return C dX1_turn_309 (Nat.zero_le _) (Nat.zero_le _) ⟨rfl, hw⟩
      · have hw := hw.2 hc102
        refine r_aload_n C rfl 3 rfl dX1_turn_290 (r_iload C 0 rfl dX1_turn_291 ?_)
        obtain ⟨hq103, hw⟩ := hw
        refine r_callV (ci := 1) (rest := []) (As := [.int ((i1 / (8 : Int32)) - (i1 / (8 : Int32)) / (24 : Int32) * (24 : Int32))]) C sg_X2_cut rfl rfl q1856 q1857 q1858 q78 q1859 rfl (Nat.le_of_ble_eq_true rfl) dX1_turn_293 rfl hq103 (Nat.zero_le _) (Nat.zero_le _) (c_X2_cut G l a0 ((i1 / (8 : Int32)) - (i1 / (8 : Int32)) / (24 : Int32) * (24 : Int32)) h101 _ hw) (k_I (fun r104 h105 hw => ?_))
        refine r_pop C rfl dX1_turn_296 (r_goto (tgt := 309) C (by decide) dX1_turn_297 ?_)
        exact r_return C dX1_turn_309 (Nat.zero_le _) (Nat.zero_le _) ⟨rfl, hw⟩
    | k9 + 7, hk9, _ => exact absurd hk9 (by omega)
def S_X1_simulate_27 (mc ms : Nat) (X : String → Hp → Prop) (Q : Int32 → Hp → Prop) (LA27 : Hp → Nat → Nat → Int32 → (Option Nat) → Int64 → Int32 → Prop) (h : Hp) (c : Nat) (n : Nat) (x3 : Int32) (x4 : Option Nat) (x5 : Int64) (x7 : Int32) : Prop :=
  (x3 ≤ x7 → nn x4 (fun y2 => gfR h y2 1 2 (fun v3 => nn v3 (fun y4 => hasC h y4 8 ∧ (wj_J2_size y4 h (fun r6 h7 => hasC h7 y2 1 ∧ (∃ k11 k12 : Nat, c + k11 ≤ mc ∧ n + k12 ≤ ms ∧ (w_X2_many k11 k12 y2 (-1 : Int32) h7 (fun r9 h10 => hasC h10 y2 1 ∧ (∃ k18 k19 : Nat, (c + k11) + k18 ≤ mc ∧ (n + k12) + k19 ≤ ms ∧ (w_X2_badShelves k18 k19 y2 h10 (fun r16 h17 => Q ((((1000 : Int32) * r6) + ((10 : Int32) * r9)) + r16) h17)))))))))))) ∧ (¬ x3 ≤ x7 → nn x4 (fun y22 => ∃ k25 k26 : Nat, c + k25 ≤ mc ∧ n + k26 ≤ ms ∧ (w_X1_turn k25 k26 y22 (((((x5 * (6364136223846793005 : Int64)) + (1442695040888963407 : Int64)).toUInt64 >>> ((33 : Int32).toInt64.toUInt64 &&& Int64.toUInt64 63)).toInt64).toInt32) h (fun h24 => LA27 h24 (c + k25) (n + k26) x3 (some y22) ((x5 * (6364136223846793005 : Int64)) + (1442695040888963407 : Int64)) (x7 + (1 : Int32))))))
def B_X1_simulate_27 (mc ms : Nat) (X : String → Hp → Prop) (Q : Int32 → Hp → Prop) : Nat → Hp → Nat → Nat → Int32 → (Option Nat) → Int64 → Int32 → Prop
  | 0, _, _, _, _, _, _, _ => False
  | k + 1, h, c, n, x3, x4, x5, x7 => S_X1_simulate_27 mc ms X Q (B_X1_simulate_27 mc ms X Q k) h c n x3 x4 x5 x7
def w_X1_simulate (mc ms : Nat) (a0 : Nat) (j1 : Int64) (i3 : Int32) (h : Hp) (X : String → Hp → Prop) (Q : Int32 → Hp → Prop) : Prop :=
  w_X1_isIn i3.toInt64 (1 : Int64) (60 : Int64) h (fun r29 h30 => ∃ k33 k34 : Nat, 0 + k33 ≤ mc ∧ 0 + k34 ≤ ms ∧ (w_X1_check k33 k34 r29 h30 X (fun h32 => gfR h32 a0 0 0 (fun v37 => nn v37 (fun y38 => hasC h32 y38 1 ∧ (∃ k42 k43 : Nat, (0 + k33) + k42 ≤ mc ∧ (0 + k34) + k43 ≤ ms ∧ (w_X2_copy k42 k43 y38 h32 (fun r40 h41 => ∃ k9 : Nat, B_X1_simulate_27 mc ms X Q k9 h41 ((0 + k33) + k42) ((0 + k34) + k43) i3 r40 j1 (0 : Int32)))))))))
theorem s_X1_simulate_27 {G : gT} {l : Launch} {V : Hp → Nat → Nat → Nat → List (Nat × Value) → List Value → Prop} {mc ms : Nat} {X : String → Hp → Prop} {Q : Int32 → Hp → Prop} (C : Cx G l V cX1_simulate 8 RX1 14 314 mc ms (pI Q) (some X) (some .int) [] false) (LA27 : Hp → Nat → Nat → Int32 → (Option Nat) → Int64 → Int32 → Prop) (hLA27 : ∀ (h : Hp) (c : Nat) (n : Nat) (x3 : Int32) (x4 : Option Nat) (x5 : Int64) (x7 : Int32), c ≤ mc → n ≤ ms → LA27 h c n x3 x4 x5 x7 → V h c n 27 [(3, .int x3), (4, va_rf x4), (5, .long x5), (7, .int x7)] []) (h : Hp) (c : Nat) (n : Nat) (x3 : Int32) (x4 : Option Nat) (x5 : Int64) (x7 : Int32) (b1 : c ≤ mc) (b2 : n ≤ ms) (hw : S_X1_simulate_27 mc ms X Q LA27 h c n x3 x4 x5 x7) : V h c n 27 [(3, .int x3), (4, va_rf x4), (5, .long x5), (7, .int x7)] [] := by
  unfold S_X1_simulate_27 at hw
  refine r_iload C 3 rfl dX1_simulate_27 (r_iload_n C rfl 0 rfl dX1_simulate_29 ?_)
  refine r_icmp_ge (tgt := 62) C (by decide) dX1_simulate_30 (fun hc1 => ?_) (fun hc1 => ?_)
  · have hw := hw.1 hc1
    refine r_sipush (v := (1000 : Int32)) C (by decide) dX1_simulate_62 (r_aloadO C 1 rfl dX1_simulate_65 ?_)
    obtain ⟨y2, rfl, hw_y2⟩ := hw
    have hw := hw_y2
    refine r_gfR (k := 2) C kX2 (by decide) (Or.inr ⟨_, (List.mem_of_getElem? (i := 5) rfl)⟩) (Or.inl rfl) dX1_simulate_67 hw (fun v3 hw => ?_)
    obtain ⟨y4, rfl, hw_y4⟩ := hw
    have hw := hw_y4
    obtain ⟨hq5, hw⟩ := hw
    refine r_callF (ci := 8) (rest := [.int (1000 : Int32)]) (As := []) C (x := ⟨"java/util/List", "size", "()I"⟩) (show ySg ⟨"java/util/List", "size", "()I"⟩ 0 = true by decide +kernel) rfl q842 q414 q416 q81 q418 (List.mem_of_getElem? (i := 2) rfl) rfl (Nat.le_of_ble_eq_true rfl) dX1_simulate_70 rfl hq5 b1 b2 (cj_J2_size G l y4 h _ hw) (k_I (fun r6 h7 hw => ?_))
    refine r_imul C dX1_simulate_75 (r_bipush (v := (10 : Int32)) C (by decide) dX1_simulate_76 (r_aload C 1 rfl dX1_simulate_78 (r_iconst (v := (-1 : Int32)) C (by decide) dX1_simulate_80 ?_)))
    obtain ⟨hq8, hw⟩ := hw
    obtain ⟨k11, k12, hp13, hp14, hw⟩ := hw
    refine r_callV (ci := 1) (rest := [.int (10 : Int32), .int ((1000 : Int32) * r6)]) (As := [.int (-1 : Int32)]) C sg_X2_many rfl rfl q1379 q1380 q1381 q78 q1382 rfl (Nat.le_of_ble_eq_true rfl) dX1_simulate_81 rfl hq8 hp13 hp14 (c_X2_many G l k11 k12 y2 (-1 : Int32) h7 _ hw) (k_I (fun r9 h10 hw => ?_))
    refine r_imul C dX1_simulate_84 (r_iadd C dX1_simulate_85 (r_aload C 1 rfl dX1_simulate_86 ?_))
    obtain ⟨hq15, hw⟩ := hw
    obtain ⟨k18, k19, hp20, hp21, hw⟩ := hw
    refine r_callV (ci := 1) (rest := [.int (((1000 : Int32) * r6) + ((10 : Int32) * r9))]) (As := []) C sg_X2_badShelves rfl rfl q1546 q1547 q1548 q78 q1549 rfl (Nat.le_of_ble_eq_true rfl) dX1_simulate_88 rfl hq15 hp20 hp21 (c_X2_badShelves G l k18 k19 y2 h10 _ hw) (k_I (fun r16 h17 hw => ?_))
    refine r_iadd C dX1_simulate_91 ?_
    exact r_ireturn C dX1_simulate_92 hp20 hp21 ⟨_, rfl, hw⟩
  · have hw := hw.2 hc1
    refine r_lload C 2 rfl dX1_simulate_33 (r_ldc2 (v := (6364136223846793005 : Int64)) C q2124 dX1_simulate_35 (r_lmul C dX1_simulate_38 (r_ldc2 (v := (1442695040888963407 : Int64)) C q2125 dX1_simulate_39 (r_ladd C dX1_simulate_42 (r_lstore (L' := [(5, .long ((x5 * (6364136223846793005 : Int64)) + (1442695040888963407 : Int64))), (3, .int x3), (4, va_rf x4), (7, .int x7)]) C (by decide) (by rcases x4 with _ | _ <;> rfl) dX1_simulate_43 ?_)))))
    refine r_aloadO C 2 rfl dX1_simulate_45 (r_lload C 0 rfl dX1_simulate_47 (r_bipush (v := (33 : Int32)) C (by decide) dX1_simulate_49 (r_lushr C dX1_simulate_51 (r_l2i C dX1_simulate_52 ?_))))
    obtain ⟨y22, rfl, hw_y22⟩ := hw
    have hw := hw_y22
    obtain ⟨k25, k26, hp27, hp28, hw⟩ := hw
    refine r_callS (rest := []) (As := [.ref y22, .int (((((x5 * (6364136223846793005 : Int64)) + (1442695040888963407 : Int64)).toUInt64 >>> ((33 : Int32).toInt64.toUInt64 &&& Int64.toUInt64 63)).toInt64).toInt32)]) C sg_X1_turn q2126 q2127 q77 q2128 rfl (Nat.le_of_ble_eq_true rfl) dX1_simulate_53 rfl hp27 hp28 (c_X1_turn G l k25 k26 y22 (((((x5 * (6364136223846793005 : Int64)) + (1442695040888963407 : Int64)).toUInt64 >>> ((33 : Int32).toInt64.toUInt64 &&& Int64.toUInt64 63)).toInt64).toInt32) h _ hw) (k_V (fun h24 hw => ?_))
    refine r_iinc (v := x7 + (1 : Int32)) (L' := [(7, .int (x7 + (1 : Int32))), (5, .long ((x5 * (6364136223846793005 : Int64)) + (1442695040888963407 : Int64))), (3, .int x3), (4, .ref y22)]) C (u := 3) rfl (by rfl) (by decide) rfl dX1_simulate_56 (r_goto (tgt := 27) C (by decide) dX1_simulate_59 ?_)
    exact r_sub C [2, 3, 1, 0] rfl (hLA27 _ _ _ _ _ _ _ hp27 hp28 hw)
theorem b_X1_simulate_27 {G : gT} {l : Launch} {V : Hp → Nat → Nat → Nat → List (Nat × Value) → List Value → Prop} {mc ms : Nat} {X : String → Hp → Prop} {Q : Int32 → Hp → Prop} (C : Cx G l V cX1_simulate 8 RX1 14 314 mc ms (pI Q) (some X) (some .int) [] false) : ∀ (k : Nat) (h : Hp) (c : Nat) (n : Nat) (x3 : Int32) (x4 : Option Nat) (x5 : Int64) (x7 : Int32), c ≤ mc → n ≤ ms → B_X1_simulate_27 mc ms X Q k h c n x3 x4 x5 x7 → V h c n 27 [(3, .int x3), (4, va_rf x4), (5, .long x5), (7, .int x7)] [] := by
  intro k
  induction k with
  | zero =>
    intro h c n x3 x4 x5 x7 b1 b2 hw
    exact hw.elim
  | succ k ih =>
    intro h c n x3 x4 x5 x7 b1 b2 hw
    exact s_X1_simulate_27 C _ (fun h c n x3 x4 x5 x7 b1 b2 hw => ih h c n x3 x4 x5 x7 b1 b2 hw) h c n x3 x4 x5 x7 b1 b2 hw
theorem sg_X1_simulate : ySg yX1_simulate 2 = true := by decide +kernel
theorem c_X1_simulate (G : gT) (l : Launch) (mc ms : Nat) (a0 : Nat) (j1 : Int64) (i3 : Int32) (h : Hp) (X : String → Hp → Prop) (Q : Int32 → Hp → Prop) (hst : l.stackTraces = false) (hw : w_X1_simulate mc ms a0 j1 i3 h X Q) : CtX G l yX1_simulate (ws_ yX1_simulate cX1_simulate 8 (some .int)) 14 314 mc ms [.ref a0, .long j1, .int i3] h (pI Q) X := by
  refine CtX.of (own := RX1) hst (by decide +kernel) rfl (show (_ : Nat) ≤ _ from Nat.le_of_ble_eq_true rfl) (fun V C => ?_)
  show V h 0 0 0 [(0, .ref a0), (1, .long j1), (3, .int i3)] []
  unfold w_X1_simulate at hw
  refine r_iload_n C rfl 2 rfl dX1_simulate_0 (r_i2l C dX1_simulate_1 (r_lconst (v := (1 : Int64)) C (by decide) dX1_simulate_2 (r_ldc2 (v := (60 : Int64)) C q2123 dX1_simulate_3 ?_)))
  refine r_callS (rest := []) (As := [.long i3.toInt64, .long (1 : Int64), .long (60 : Int64)]) C sg_X1_isIn q399 q400 q77 q401 rfl (Nat.le_of_ble_eq_true rfl) dX1_simulate_6 rfl (Nat.zero_le _) (Nat.zero_le _) (c_X1_isIn G l i3.toInt64 (1 : Int64) (60 : Int64) h _ hw) (k_Z (fun r29 h30 hw => ?_))
  obtain ⟨k33, k34, hp35, hp36, hw⟩ := hw
  refine r_callSX (rest := []) (As := [.int (bI r29)]) C sg_X1_check q1332 q1333 q77 q1334 rfl (Nat.le_of_ble_eq_true rfl) dX1_simulate_9 rfl hp35 hp36 (c_X1_check G l k33 k34 r29 h30 X _ (st_C C) hw) (k_V (fun h32 hw => ?_))
  refine r_aload_n C rfl 0 rfl dX1_simulate_12 ?_
  refine r_gfR (k := 0) C kX1 (by decide) (Or.inl q344) (Or.inl rfl) dX1_simulate_13 hw (fun v37 hw => ?_)
  obtain ⟨y38, rfl, hw_y38⟩ := hw
  have hw := hw_y38
  obtain ⟨hq39, hw⟩ := hw
  obtain ⟨k42, k43, hp44, hp45, hw⟩ := hw
  refine r_callV (ci := 1) (rest := []) (As := []) C sg_X2_copy rfl rfl q1761 q1762 q1763 q78 q1764 rfl (Nat.le_of_ble_eq_true rfl) dX1_simulate_16 rfl hq39 hp44 hp45 (c_X2_copy G l k42 k43 y38 h32 _ hw) (k_R (fun r40 h41 hw => ?_))
  refine r_astoreO (x := r40) (L' := [(4, va_rf r40), (0, .ref a0), (1, .long j1), (3, .int i3)]) C (by decide) rfl dX1_simulate_19 (r_lload_n C rfl 2 rfl dX1_simulate_21 (r_lstore (L' := [(5, .long j1), (4, va_rf r40), (0, .ref a0), (1, .long j1), (3, .int i3)]) C (by decide) (by rcases r40 with _ | _ <;> rfl) dX1_simulate_22 (r_iconst (v := (0 : Int32)) C (by decide) dX1_simulate_24 (r_istore (L' := [(7, .int (0 : Int32)), (5, .long j1), (4, va_rf r40), (0, .ref a0), (1, .long j1), (3, .int i3)]) C (by decide) rfl dX1_simulate_25 ?_))))
  obtain ⟨k9, hw⟩ := hw
  exact r_sub C [5, 2, 1, 0] rfl (b_X1_simulate_27 C _ _ _ _ _ _ _ _ hp44 hp45 hw)
def w_X1_checkSlot (mc ms : Nat) (i0 : Int32) (h : Hp) (X : String → Hp → Prop) (Q : Hp → Prop) : Prop :=
  w_X1_isIn i0.toInt64 (0 : Int64) (1 : Int64) h (fun r1 h2 => ∃ k5 k6 : Nat, 0 + k5 ≤ mc ∧ 0 + k6 ≤ ms ∧ (w_X1_exists k5 k6 r1 h2 X (fun h4 => Q h4)))
theorem sg_X1_checkSlot : ySg yX1_checkSlot 1 = true := by decide +kernel
theorem c_X1_checkSlot (G : gT) (l : Launch) (mc ms : Nat) (i0 : Int32) (h : Hp) (X : String → Hp → Prop) (Q : Hp → Prop) (hst : l.stackTraces = false) (hw : w_X1_checkSlot mc ms i0 h X Q) : CtX G l yX1_checkSlot (ws_ yX1_checkSlot cX1_checkSlot 1 (none)) 7 110 mc ms [.int i0] h (pV Q) X := by
  refine CtX.of (own := RX1) hst (by decide +kernel) rfl (show (_ : Nat) ≤ _ from Nat.le_of_ble_eq_true rfl) (fun V C => ?_)
  show V h 0 0 0 [(0, .int i0)] []
  unfold w_X1_checkSlot at hw
  refine r_iload_n C rfl 0 rfl dX1_checkSlot_0 (r_i2l C dX1_checkSlot_1 (r_lconst (v := (0 : Int64)) C (by decide) dX1_checkSlot_2 (r_lconst (v := (1 : Int64)) C (by decide) dX1_checkSlot_3 ?_)))
  refine r_callS (rest := []) (As := [.long i0.toInt64, .long (0 : Int64), .long (1 : Int64)]) C sg_X1_isIn q399 q400 q77 q401 rfl (Nat.le_of_ble_eq_true rfl) dX1_checkSlot_4 rfl (Nat.zero_le _) (Nat.zero_le _) (c_X1_isIn G l i0.toInt64 (0 : Int64) (1 : Int64) h _ hw) (k_Z (fun r1 h2 hw => ?_))
  obtain ⟨k5, k6, hp7, hp8, hw⟩ := hw
  refine r_callSX (rest := []) (As := [.int (bI r1)]) C sg_X1_exists q1599 q1600 q77 q1601 rfl (Nat.le_of_ble_eq_true rfl) dX1_checkSlot_7 rfl hp7 hp8 (c_X1_exists G l k5 k6 r1 h2 X _ (st_C C) hw) (k_V (fun h4 hw => ?_))
  exact r_return C dX1_checkSlot_10 hp7 hp8 ⟨rfl, hw⟩
def w_X1_save (mc ms : Nat) (a0 : Nat) (i1 : Int32) (h : Hp) (X : String → Hp → Prop) (Q : Int32 → Hp → Prop) : Prop :=
  ∃ k3 k4 : Nat, 0 + k3 ≤ mc ∧ 0 + k4 ≤ ms ∧ (w_X1_checkSlot k3 k4 i1 h X (fun h2 => gfR h2 a0 0 2 (fun v7 => gfR h2 a0 0 0 (fun v8 => nn v8 (fun y9 => hasC h2 y9 1 ∧ (∃ k13 k14 : Nat, (0 + k3) + k13 ≤ mc ∧ (0 + k4) + k14 ≤ ms ∧ (w_X2_copy k13 k14 y9 h2 (fun r11 h12 => nn v7 (fun y18 => wrR 4 h12 y18 i1 r11 (fun h17 => gfR h17 a0 0 0 (fun v19 => nn v19 (fun y20 => gfR h17 y20 1 2 (fun v21 => nn v21 (fun y22 => hasC h17 y22 8 ∧ (wj_J2_size y22 h17 (fun r24 h25 => Q r24 h25))))))))))))))))
theorem sg_X1_save : ySg yX1_save 1 = true := by decide +kernel
theorem c_X1_save (G : gT) (l : Launch) (mc ms : Nat) (a0 : Nat) (i1 : Int32) (h : Hp) (X : String → Hp → Prop) (Q : Int32 → Hp → Prop) (hst : l.stackTraces = false) (hw : w_X1_save mc ms a0 i1 h X Q) : CtX G l yX1_save (ws_ yX1_save cX1_save 2 (some .int)) 9 238 mc ms [.ref a0, .int i1] h (pI Q) X := by
  refine CtX.of (own := RX1) hst (by decide +kernel) rfl (show (_ : Nat) ≤ _ from Nat.le_of_ble_eq_true rfl) (fun V C => ?_)
  show V h 0 0 0 [(0, .ref a0), (1, .int i1)] []
  unfold w_X1_save at hw
  refine r_iload_n C rfl 1 rfl dX1_save_0 ?_
  obtain ⟨k3, k4, hp5, hp6, hw⟩ := hw
  refine r_callSX (rest := []) (As := [.int i1]) C sg_X1_checkSlot q2136 q2137 q77 q2138 rfl (Nat.le_of_ble_eq_true rfl) dX1_save_1 rfl hp5 hp6 (c_X1_checkSlot G l k3 k4 i1 h X _ (st_C C) hw) (k_V (fun h2 hw => ?_))
  refine r_aload_n C rfl 0 rfl dX1_save_4 ?_
  refine r_gfR (k := 2) C kX1 (by decide) (Or.inl q346) (Or.inl rfl) dX1_save_5 hw (fun v7 hw => ?_)
  refine r_iload_n C rfl 1 rfl dX1_save_8 (r_aload_n C rfl 0 rfl dX1_save_9 ?_)
  refine r_gfR (k := 0) C kX1 (by decide) (Or.inl q344) (Or.inl rfl) dX1_save_10 hw (fun v8 hw => ?_)
  obtain ⟨y9, rfl, hw_y9⟩ := hw
  have hw := hw_y9
  obtain ⟨hq10, hw⟩ := hw
  obtain ⟨k13, k14, hp15, hp16, hw⟩ := hw
  refine r_callV (ci := 1) (rest := [.int i1, va_rf v7]) (As := []) C sg_X2_copy rfl rfl q1761 q1762 q1763 q78 q1764 rfl (by rcases v7 with _ | _ <;> exact Nat.le_of_ble_eq_true rfl) dX1_save_13 rfl hq10 hp15 hp16 (c_X2_copy G l k13 k14 y9 h2 _ hw) (k_R (fun r11 h12 hw => ?_))
  obtain ⟨y18, rfl, hw_y18⟩ := hw
  have hw := hw_y18
  refine r_aastore (t := 4) (x := r11) C (by decide) rfl dX1_save_16 hw (fun h17 hw => ?_)
  refine r_aload_n C rfl 0 rfl dX1_save_17 ?_
  refine r_gfR (k := 0) C kX1 (by decide) (Or.inl q344) (Or.inl rfl) dX1_save_18 hw (fun v19 hw => ?_)
  obtain ⟨y20, rfl, hw_y20⟩ := hw
  have hw := hw_y20
  refine r_gfR (k := 2) C kX2 (by decide) (Or.inr ⟨_, (List.mem_of_getElem? (i := 5) rfl)⟩) (Or.inl rfl) dX1_save_21 hw (fun v21 hw => ?_)
  obtain ⟨y22, rfl, hw_y22⟩ := hw
  have hw := hw_y22
  obtain ⟨hq23, hw⟩ := hw
  refine r_callF (ci := 8) (rest := []) (As := []) C (x := ⟨"java/util/List", "size", "()I"⟩) (show ySg ⟨"java/util/List", "size", "()I"⟩ 0 = true by decide +kernel) rfl q842 q414 q416 q81 q418 (List.mem_of_getElem? (i := 2) rfl) rfl (Nat.le_of_ble_eq_true rfl) dX1_save_24 rfl hq23 hp15 hp16 (cj_J2_size G l y22 h17 _ hw) (k_I (fun r24 h25 hw => ?_))
  exact r_ireturn C dX1_save_29 hp15 hp16 ⟨_, rfl, hw⟩
def B_X1_restore_18 (mc ms : Nat) (X : String → Hp → Prop) (Q : Int32 → Hp → Prop) (h : Hp) (c : Nat) (n : Nat) (x0 : Nat) (x1 : Int32) (s0 : Bool) : Prop :=
  ∃ k3 k4 : Nat, c + k3 ≤ mc ∧ n + k4 ≤ ms ∧ (w_X1_free k3 k4 s0 h X (fun h2 => gfR h2 x0 0 2 (fun v7 => nn v7 (fun y8 => rdR 4 h2 y8 x1 (fun v9 => nn v9 (fun y10 => hasC h2 y10 1 ∧ (∃ k14 k15 : Nat, (c + k3) + k14 ≤ mc ∧ (n + k4) + k15 ≤ ms ∧ (w_X2_copy k14 k15 y10 h2 (fun r12 h13 => pf h13 x0 0 0 (va_rf r12) (fun h18 => gfR h18 x0 0 1 (fun v19 => nn v19 (fun y20 => hasC h18 y20 11 ∧ (wj_J9_clear y20 h18 (fun h23 => gfR h23 x0 0 0 (fun v24 => nn v24 (fun y25 => gfR h23 y25 1 2 (fun v26 => nn v26 (fun y27 => hasC h23 y27 8 ∧ (wj_J2_size y27 h23 (fun r29 h30 => Q r29 h30))))))))))))))))))))
def w_X1_restore (mc ms : Nat) (a0 : Nat) (i1 : Int32) (h : Hp) (X : String → Hp → Prop) (Q : Int32 → Hp → Prop) : Prop :=
  ∃ k33 k34 : Nat, 0 + k33 ≤ mc ∧ 0 + k34 ≤ ms ∧ (w_X1_checkSlot k33 k34 i1 h X (fun h32 => gfR h32 a0 0 2 (fun v37 => nn v37 (fun y38 => rdR 4 h32 y38 i1 (fun v39 => (v39 = none → B_X1_restore_18 mc ms X Q h32 (0 + k33) (0 + k34) a0 i1 false) ∧ (∀ y40 : Nat, v39 = some y40 → B_X1_restore_18 mc ms X Q h32 (0 + k33) (0 + k34) a0 i1 true))))))
theorem b_X1_restore_18 {G : gT} {l : Launch} {V : Hp → Nat → Nat → Nat → List (Nat × Value) → List Value → Prop} {mc ms : Nat} {X : String → Hp → Prop} {Q : Int32 → Hp → Prop} (C : Cx G l V cX1_restore 2 RX1 9 238 mc ms (pI Q) (some X) (some .int) [] false) (h : Hp) (c : Nat) (n : Nat) (x0 : Nat) (x1 : Int32) (s0 : Bool) (b1 : c ≤ mc) (b2 : n ≤ ms) (hw : B_X1_restore_18 mc ms X Q h c n x0 x1 s0) : V h c n 18 [(0, .ref x0), (1, .int x1)] [.int (bI s0)] := by
  unfold B_X1_restore_18 at hw
  obtain ⟨k3, k4, hp5, hp6, hw⟩ := hw
  refine r_callSX (rest := []) (As := [.int (bI s0)]) C sg_X1_free q1340 q1341 q77 q1342 rfl (Nat.le_of_ble_eq_true rfl) dX1_restore_18 rfl hp5 hp6 (c_X1_free G l k3 k4 s0 h X _ (st_C C) hw) (k_V (fun h2 hw => ?_))
  refine r_aload_n C rfl 0 rfl dX1_restore_21 (r_aload_n C rfl 0 rfl dX1_restore_22 ?_)
  refine r_gfR (k := 2) C kX1 (by decide) (Or.inl q346) (Or.inl rfl) dX1_restore_23 hw (fun v7 hw => ?_)
  refine r_iload_n C rfl 1 rfl dX1_restore_26 ?_
  obtain ⟨y8, rfl, hw_y8⟩ := hw
  have hw := hw_y8
  refine r_aaload (t := 4) C rfl dX1_restore_27 hw (fun v9 hw => ?_)
  obtain ⟨y10, rfl, hw_y10⟩ := hw
  have hw := hw_y10
  obtain ⟨hq11, hw⟩ := hw
  obtain ⟨k14, k15, hp16, hp17, hw⟩ := hw
  refine r_callV (ci := 1) (rest := [.ref x0]) (As := []) C sg_X2_copy rfl rfl q1761 q1762 q1763 q78 q1764 rfl (Nat.le_of_ble_eq_true rfl) dX1_restore_28 rfl hq11 hp16 hp17 (c_X2_copy G l k14 k15 y10 h2 _ hw) (k_R (fun r12 h13 hw => ?_))
  refine r_pf (k := 0) (v := va_rf r12) C kX1 (by decide) (Or.inl q344) (Or.inl rfl) (Or.inl rfl) (n_rfO _ _) (f_rfO _ _) dX1_restore_31 hw (fun h18 hw => ?_)
  refine r_aload_n C rfl 0 rfl dX1_restore_34 ?_
  refine r_gfR (k := 1) C kX1 (by decide) (Or.inl q345) (Or.inl rfl) dX1_restore_35 hw (fun v19 hw => ?_)
  obtain ⟨y20, rfl, hw_y20⟩ := hw
  have hw := hw_y20
  obtain ⟨hq21, hw⟩ := hw
  refine r_callV (ci := 11) (rest := []) (As := []) C sg_J9_clear rfl rfl q1365 q1366 q1367 q89 q1368 rfl (Nat.le_of_ble_eq_true rfl) dX1_restore_38 rfl hq21 hp16 hp17 (cj_J9_clear G l y20 h18 _ hw) (k_V (fun h23 hw => ?_))
  refine r_aload_n C rfl 0 rfl dX1_restore_41 ?_
  refine r_gfR (k := 0) C kX1 (by decide) (Or.inl q344) (Or.inl rfl) dX1_restore_42 hw (fun v24 hw => ?_)
  obtain ⟨y25, rfl, hw_y25⟩ := hw
  have hw := hw_y25
  refine r_gfR (k := 2) C kX2 (by decide) (Or.inr ⟨_, (List.mem_of_getElem? (i := 5) rfl)⟩) (Or.inl rfl) dX1_restore_45 hw (fun v26 hw => ?_)
  obtain ⟨y27, rfl, hw_y27⟩ := hw
  have hw := hw_y27
  obtain ⟨hq28, hw⟩ := hw
  refine r_callF (ci := 8) (rest := []) (As := []) C (x := ⟨"java/util/List", "size", "()I"⟩) (show ySg ⟨"java/util/List", "size", "()I"⟩ 0 = true by decide +kernel) rfl q842 q414 q416 q81 q418 (List.mem_of_getElem? (i := 2) rfl) rfl (Nat.le_of_ble_eq_true rfl) dX1_restore_48 rfl hq28 hp16 hp17 (cj_J2_size G l y27 h23 _ hw) (k_I (fun r29 h30 hw => ?_))
  exact r_ireturn C dX1_restore_53 hp16 hp17 ⟨_, rfl, hw⟩
theorem sg_X1_restore : ySg yX1_restore 1 = true := by decide +kernel
theorem c_X1_restore (G : gT) (l : Launch) (mc ms : Nat) (a0 : Nat) (i1 : Int32) (h : Hp) (X : String → Hp → Prop) (Q : Int32 → Hp → Prop) (hst : l.stackTraces = false) (hw : w_X1_restore mc ms a0 i1 h X Q) : CtX G l yX1_restore (ws_ yX1_restore cX1_restore 2 (some .int)) 9 238 mc ms [.ref a0, .int i1] h (pI Q) X := by
  refine CtX.of (own := RX1) hst (by decide +kernel) rfl (show (_ : Nat) ≤ _ from Nat.le_of_ble_eq_true rfl) (fun V C => ?_)
  show V h 0 0 0 [(0, .ref a0), (1, .int i1)] []
  unfold w_X1_restore at hw
  refine r_iload_n C rfl 1 rfl dX1_restore_0 ?_
  obtain ⟨k33, k34, hp35, hp36, hw⟩ := hw
  refine r_callSX (rest := []) (As := [.int i1]) C sg_X1_checkSlot q2136 q2137 q77 q2138 rfl (Nat.le_of_ble_eq_true rfl) dX1_restore_1 rfl hp35 hp36 (c_X1_checkSlot G l k33 k34 i1 h X _ (st_C C) hw) (k_V (fun h32 hw => ?_))
  refine r_aload_n C rfl 0 rfl dX1_restore_4 ?_
  refine r_gfR (k := 2) C kX1 (by decide) (Or.inl q346) (Or.inl rfl) dX1_restore_5 hw (fun v37 hw => ?_)
  refine r_iload_n C rfl 1 rfl dX1_restore_8 ?_
  obtain ⟨y38, rfl, hw_y38⟩ := hw
  have hw := hw_y38
  refine r_aaload (t := 4) C rfl dX1_restore_9 hw (fun v39 hw => ?_)
  refine r_ifnull (x := v39) (tgt := 17) C (by decide) dX1_restore_10 (fun hc41 => ?_) (fun y40 hc41 => ?_)
  · have hw_y40 := hw.1 hc41
    subst hc41
    have hw := hw_y40
    refine r_iconst (v := (0 : Int32)) C (by decide) dX1_restore_17 ?_
    exact r_sub C [0, 1] rfl (b_X1_restore_18 C _ _ _ _ _ _ hp35 hp36 hw)
  · have hw_y40 := hw.2 y40 hc41
    subst hc41
    have hw := hw_y40
    refine r_iconst (v := (1 : Int32)) C (by decide) dX1_restore_13 (r_goto (tgt := 18) C (by decide) dX1_restore_14 ?_)
    exact r_sub C [0, 1] rfl (b_X1_restore_18 C _ _ _ _ _ _ hp35 hp36 hw)
