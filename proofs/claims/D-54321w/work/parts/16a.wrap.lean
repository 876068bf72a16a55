set_option maxRecDepth 100000
set_option maxHeartbeats 4000000

abbrev hh_X0_append : List (Nat × Nat × Nat × Nat) := [(0, 9, 12, 13), (0, 9, 15, 15)]
def w_X0_append (mc ms : Nat) (a0 : Nat) (i1 : Int32) (a2 : Nat) (h : Hp) (Q : Int32 → Hp → Prop) : Prop :=
  hasC h a0 0 ∧ (∃ k4 k5 : Nat, 0 + k4 ≤ mc ∧ 0 + k5 ≤ ms ∧ (w_X1_append k4 k5 a0 i1 h (fun E9 h9 => (E9 = "java/lang/IllegalArgumentException" ∧ (Q (1 : Int32) h9)) ∨ (E9 = "java/lang/IllegalStateException" ∧ (Q (2 : Int32) h9))) (fun r2 h3 => wrL h3 a2 (0 : Int32) r2.toInt64 (fun h8 => Q (0 : Int32) h8))))
theorem sg_X0_append : ySg yX0_append 3 = true := by decide +kernel
theorem c_X0_append (G : gT) (l : Launch) (mc ms : Nat) (a0 : Nat) (i1 : Int32) (a2 : Nat) (h : Hp) (Q : Int32 → Hp → Prop) (hst : l.stackTraces = false) (hw : w_X0_append mc ms a0 i1 a2 h Q) : Ct G l yX0_append (wsW_ yX0_append cX0_append 4 (some .int) hh_X0_append) 8 131 mc ms [.ref a0, .int i1, .ref a2] h (pI Q) := by
  refine CtW.of (own := RX0) (by decide +kernel) rfl (show (_ : Nat) ≤ _ from Nat.le_of_ble_eq_true rfl) (fun V C => ?_)
  show V h 0 0 0 [(0, .ref a0), (1, .int i1), (2, .ref a2)] []
  unfold w_X0_append at hw
  refine r_aload_n C rfl 2 rfl dX0_append_0 (r_iconst (v := (0 : Int32)) C (by decide) dX0_append_1 (r_aload_n C rfl 0 rfl dX0_append_2 (r_iload_n C rfl 1 rfl dX0_append_3 ?_)))
  obtain ⟨hq1, hw⟩ := hw
  obtain ⟨k4, k5, hp6, hp7, hw⟩ := hw
  refine r_callVH (ci := 0) (rest := [.int (0 : Int32), .ref a2]) (As := [.int i1]) C (by decide) sg_X1_append rfl rfl q1327 q1328 q1329 q77 q1330 rfl (Nat.le_of_ble_eq_true rfl) dX0_append_4 rfl hq1 hp6 hp7 (c_X1_append G l k4 k5 a0 i1 h _ _ hst hw) (fun E9 h9 hX9 => ?_) (k_I (fun r2 h3 hw => ?_))
  · rcases hX9 with ⟨rfl, hw⟩ | ⟨rfl, hw⟩
    · refine ⟨(tableOf hh_X0_append).take 0, _, (tableOf hh_X0_append).drop 1, "java/lang/IllegalArgumentException", rfl, ?_, by decide, by decide, q1325, (List.mem_of_getElem? (i := 11) rfl), fun q9 => ?_⟩
      · intro z hz
        cases hz
      · show V h9 _ _ 12 _ _
        refine r_astore_n (L' := [(3, .ref q9), (0, .ref a0), (1, .int i1), (2, .ref a2)]) C rfl (by decide) rfl dX0_append_12 (r_iconst (v := (1 : Int32)) C (by decide) dX0_append_13 ?_)
        exact r_ireturn C dX0_append_14 hp6 hp7 ⟨_, rfl, hw⟩
    · refine ⟨(tableOf hh_X0_append).take 1, _, (tableOf hh_X0_append).drop 2, "java/lang/IllegalStateException", rfl, ?_, by decide, by decide, q1326, (List.mem_of_getElem? (i := 47) rfl), fun q9 => ?_⟩
      · intro z hz
        cases hz with
        | head => exact Or.inr ⟨by decide, "java/lang/IllegalArgumentException", q1325, List.mem_of_getElem? (i := 2) rfl⟩
        | tail _ hz => cases hz
      · show V h9 _ _ 15 _ _
        refine r_astore_n (L' := [(3, .ref q9), (0, .ref a0), (1, .int i1), (2, .ref a2)]) C rfl (by decide) rfl dX0_append_15 (r_iconst (v := (2 : Int32)) C (by decide) dX0_append_16 ?_)
        exact r_ireturn C dX0_append_17 hp6 hp7 ⟨_, rfl, hw⟩
  refine r_i2l C dX0_append_7 ?_
  refine r_lastore C dX0_append_8 hw (fun h8 hw => ?_)
  refine r_goto (tgt := 18) C (by decide) dX0_append_9 (r_iconst (v := (0 : Int32)) C (by decide) dX0_append_18 ?_)
  exact r_ireturn C dX0_append_19 hp6 hp7 ⟨_, rfl, hw⟩
abbrev hh_X0_load : List (Nat × Nat × Nat × Nat) := [(0, 8, 11, 15)]
def w_X0_load (mc ms : Nat) (a0 : Nat) (a1 : Nat) (h : Hp) (Q : Int32 → Hp → Prop) : Prop :=
  hasC h a0 0 ∧ (∃ k4 k5 : Nat, 0 + k4 ≤ mc ∧ 0 + k5 ≤ ms ∧ (w_X1_load k4 k5 a0 h (fun E9 h9 => (E9 = "java/lang/IllegalStateException" ∧ (Q (1 : Int32) h9))) (fun r2 h3 => wrL h3 a1 (0 : Int32) r2.toInt64 (fun h8 => Q (0 : Int32) h8))))
theorem sg_X0_load : ySg yX0_load 2 = true := by decide +kernel
theorem c_X0_load (G : gT) (l : Launch) (mc ms : Nat) (a0 : Nat) (a1 : Nat) (h : Hp) (Q : Int32 → Hp → Prop) (hst : l.stackTraces = false) (hw : w_X0_load mc ms a0 a1 h Q) : Ct G l yX0_load (wsW_ yX0_load cX0_load 3 (some .int) hh_X0_load) 12 307 mc ms [.ref a0, .ref a1] h (pI Q) := by
  refine CtW.of (own := RX0) (by decide +kernel) rfl (show (_ : Nat) ≤ _ from Nat.le_of_ble_eq_true rfl) (fun V C => ?_)
  show V h 0 0 0 [(0, .ref a0), (1, .ref a1)] []
  unfold w_X0_load at hw
  refine r_aload_n C rfl 1 rfl dX0_load_0 (r_iconst (v := (0 : Int32)) C (by decide) dX0_load_1 (r_aload_n C rfl 0 rfl dX0_load_2 ?_))
  obtain ⟨hq1, hw⟩ := hw
  obtain ⟨k4, k5, hp6, hp7, hw⟩ := hw
  refine r_callVH (ci := 0) (rest := [.int (0 : Int32), .ref a1]) (As := []) C (by decide) sg_X1_load rfl rfl q1361 q1362 q1363 q77 q1364 rfl (Nat.le_of_ble_eq_true rfl) dX0_load_3 rfl hq1 hp6 hp7 (c_X1_load G l k4 k5 a0 h _ _ hst hw) (fun E9 h9 hX9 => ?_) (k_I (fun r2 h3 hw => ?_))
  · rcases hX9 with ⟨rfl, hw⟩
    refine ⟨(tableOf hh_X0_load).take 0, _, (tableOf hh_X0_load).drop 1, "java/lang/IllegalStateException", rfl, ?_, by decide, by decide, q1326, (List.mem_of_getElem? (i := 47) rfl), fun q9 => ?_⟩
    · intro z hz
      cases hz
    · show V h9 _ _ 11 _ _
      refine r_astore_n (L' := [(2, .ref q9), (0, .ref a0), (1, .ref a1)]) C rfl (by decide) rfl dX0_load_11 (r_iconst (v := (1 : Int32)) C (by decide) dX0_load_12 ?_)
      exact r_ireturn C dX0_load_13 hp6 hp7 ⟨_, rfl, hw⟩
  refine r_i2l C dX0_load_6 ?_
  refine r_lastore C dX0_load_7 hw (fun h8 hw => ?_)
  refine r_goto (tgt := 14) C (by decide) dX0_load_8 (r_iconst (v := (0 : Int32)) C (by decide) dX0_load_14 ?_)
  exact r_ireturn C dX0_load_15 hp6 hp7 ⟨_, rfl, hw⟩
abbrev hh_X0_about : List (Nat × Nat × Nat × Nat) := [(0, 9, 12, 13)]
def w_X0_about (mc ms : Nat) (a0 : Nat) (i1 : Int32) (a2 : Nat) (h : Hp) (Q : Int32 → Hp → Prop) : Prop :=
  hasC h a0 0 ∧ (∃ k4 k5 : Nat, 0 + k4 ≤ mc ∧ 0 + k5 ≤ ms ∧ (w_X1_about k4 k5 a0 i1 h (fun E9 h9 => (E9 = "java/lang/IllegalArgumentException" ∧ (Q (1 : Int32) h9))) (fun r2 h3 => wrL h3 a2 (0 : Int32) r2.toInt64 (fun h8 => Q (0 : Int32) h8))))
theorem sg_X0_about : ySg yX0_about 3 = true := by decide +kernel
theorem c_X0_about (G : gT) (l : Launch) (mc ms : Nat) (a0 : Nat) (i1 : Int32) (a2 : Nat) (h : Hp) (Q : Int32 → Hp → Prop) (hst : l.stackTraces = false) (hw : w_X0_about mc ms a0 i1 a2 h Q) : Ct G l yX0_about (wsW_ yX0_about cX0_about 4 (some .int) hh_X0_about) 14 309 mc ms [.ref a0, .int i1, .ref a2] h (pI Q) := by
  refine CtW.of (own := RX0) (by decide +kernel) rfl (show (_ : Nat) ≤ _ from Nat.le_of_ble_eq_true rfl) (fun V C => ?_)
  show V h 0 0 0 [(0, .ref a0), (1, .int i1), (2, .ref a2)] []
  unfold w_X0_about at hw
  refine r_aload_n C rfl 2 rfl dX0_about_0 (r_iconst (v := (0 : Int32)) C (by decide) dX0_about_1 (r_aload_n C rfl 0 rfl dX0_about_2 (r_iload_n C rfl 1 rfl dX0_about_3 ?_)))
  obtain ⟨hq1, hw⟩ := hw
  obtain ⟨k4, k5, hp6, hp7, hw⟩ := hw
  refine r_callVH (ci := 0) (rest := [.int (0 : Int32), .ref a2]) (As := [.int i1]) C (by decide) sg_X1_about rfl rfl q1375 q1376 q1377 q77 q1378 rfl (Nat.le_of_ble_eq_true rfl) dX0_about_4 rfl hq1 hp6 hp7 (c_X1_about G l k4 k5 a0 i1 h _ _ hst hw) (fun E9 h9 hX9 => ?_) (k_I (fun r2 h3 hw => ?_))
  · rcases hX9 with ⟨rfl, hw⟩
    refine ⟨(tableOf hh_X0_about).take 0, _, (tableOf hh_X0_about).drop 1, "java/lang/IllegalArgumentException", rfl, ?_, by decide, by decide, q1325, (List.mem_of_getElem? (i := 11) rfl), fun q9 => ?_⟩
    · intro z hz
      cases hz
    · show V h9 _ _ 12 _ _
      refine r_astore_n (L' := [(3, .ref q9), (0, .ref a0), (1, .int i1), (2, .ref a2)]) C rfl (by decide) rfl dX0_about_12 (r_iconst (v := (1 : Int32)) C (by decide) dX0_about_13 ?_)
      exact r_ireturn C dX0_about_14 hp6 hp7 ⟨_, rfl, hw⟩
  refine r_i2l C dX0_about_7 ?_
  refine r_lastore C dX0_about_8 hw (fun h8 hw => ?_)
  refine r_goto (tgt := 15) C (by decide) dX0_about_9 (r_iconst (v := (0 : Int32)) C (by decide) dX0_about_15 ?_)
  exact r_ireturn C dX0_about_16 hp6 hp7 ⟨_, rfl, hw⟩
abbrev hh_X0_ofReign : List (Nat × Nat × Nat × Nat) := [(0, 10, 13, 28), (0, 10, 17, 13)]
def w_X0_ofReign (mc ms : Nat) (a0 : Nat) (i1 : Int32) (i2 : Int32) (a3 : Nat) (h : Hp) (Q : Int32 → Hp → Prop) : Prop :=
  hasC h a0 0 ∧ (∃ k4 k5 : Nat, 0 + k4 ≤ mc ∧ 0 + k5 ≤ ms ∧ (w_X1_ofReign k4 k5 a0 i1 i2 h (fun E9 h9 => (E9 = "java/lang/IndexOutOfBoundsException" ∧ (Q (1 : Int32) h9)) ∨ (E9 = "java/lang/IllegalArgumentException" ∧ (Q (2 : Int32) h9))) (fun r2 h3 => wrL h3 a3 (0 : Int32) r2.toInt64 (fun h8 => Q (0 : Int32) h8))))
theorem sg_X0_ofReign : ySg yX0_ofReign 4 = true := by decide +kernel
theorem c_X0_ofReign (G : gT) (l : Launch) (mc ms : Nat) (a0 : Nat) (i1 : Int32) (i2 : Int32) (a3 : Nat) (h : Hp) (Q : Int32 → Hp → Prop) (hst : l.stackTraces = false) (hw : w_X0_ofReign mc ms a0 i1 i2 a3 h Q) : Ct G l yX0_ofReign (wsW_ yX0_ofReign cX0_ofReign 5 (some .int) hh_X0_ofReign) 8 132 mc ms [.ref a0, .int i1, .int i2, .ref a3] h (pI Q) := by
  refine CtW.of (own := RX0) (by decide +kernel) rfl (show (_ : Nat) ≤ _ from Nat.le_of_ble_eq_true rfl) (fun V C => ?_)
  show V h 0 0 0 [(0, .ref a0), (1, .int i1), (2, .int i2), (3, .ref a3)] []
  unfold w_X0_ofReign at hw
  refine r_aload_n C rfl 3 rfl dX0_ofReign_0 (r_iconst (v := (0 : Int32)) C (by decide) dX0_ofReign_1 (r_aload_n C rfl 0 rfl dX0_ofReign_2 (r_iload_n C rfl 1 rfl dX0_ofReign_3 (r_iload_n C rfl 2 rfl dX0_ofReign_4 ?_))))
  obtain ⟨hq1, hw⟩ := hw
  obtain ⟨k4, k5, hp6, hp7, hw⟩ := hw
  refine r_callVH (ci := 0) (rest := [.int (0 : Int32), .ref a3]) (As := [.int i1, .int i2]) C (by decide) sg_X1_ofReign rfl rfl q1595 q1596 q1597 q77 q1598 rfl (Nat.le_of_ble_eq_true rfl) dX0_ofReign_5 rfl hq1 hp6 hp7 (c_X1_ofReign G l k4 k5 a0 i1 i2 h _ _ hst hw) (fun E9 h9 hX9 => ?_) (k_I (fun r2 h3 hw => ?_))
  · rcases hX9 with ⟨rfl, hw⟩ | ⟨rfl, hw⟩
    · refine ⟨(tableOf hh_X0_ofReign).take 0, _, (tableOf hh_X0_ofReign).drop 1, "java/lang/IndexOutOfBoundsException", rfl, ?_, by decide, by decide, q1579, (List.mem_of_getElem? (i := 9) rfl), fun q9 => ?_⟩
      · intro z hz
        cases hz
      · show V h9 _ _ 13 _ _
        refine r_astore (L' := [(4, .ref q9), (0, .ref a0), (1, .int i1), (2, .int i2), (3, .ref a3)]) C (by decide) rfl dX0_ofReign_13 (r_iconst (v := (1 : Int32)) C (by decide) dX0_ofReign_15 ?_)
        exact r_ireturn C dX0_ofReign_16 hp6 hp7 ⟨_, rfl, hw⟩
    · refine ⟨(tableOf hh_X0_ofReign).take 1, _, (tableOf hh_X0_ofReign).drop 2, "java/lang/IllegalArgumentException", rfl, ?_, by decide, by decide, q1325, (List.mem_of_getElem? (i := 11) rfl), fun q9 => ?_⟩
      · intro z hz
        cases hz with
        | head => exact Or.inr ⟨by decide, "java/lang/IndexOutOfBoundsException", q1579, List.mem_of_getElem? (i := 1) rfl⟩
        | tail _ hz => cases hz
      · show V h9 _ _ 17 _ _
        refine r_astore (L' := [(4, .ref q9), (0, .ref a0), (1, .int i1), (2, .int i2), (3, .ref a3)]) C (by decide) rfl dX0_ofReign_17 (r_iconst (v := (2 : Int32)) C (by decide) dX0_ofReign_19 ?_)
        exact r_ireturn C dX0_ofReign_20 hp6 hp7 ⟨_, rfl, hw⟩
  refine r_i2l C dX0_ofReign_8 ?_
  refine r_lastore C dX0_ofReign_9 hw (fun h8 hw => ?_)
  refine r_goto (tgt := 21) C (by decide) dX0_ofReign_10 (r_iconst (v := (0 : Int32)) C (by decide) dX0_ofReign_21 ?_)
  exact r_ireturn C dX0_ofReign_22 hp6 hp7 ⟨_, rfl, hw⟩
abbrev hh_X0_ofDie : List (Nat × Nat × Nat × Nat) := [(0, 10, 13, 28), (0, 10, 17, 13)]
def w_X0_ofDie (mc ms : Nat) (a0 : Nat) (i1 : Int32) (i2 : Int32) (a3 : Nat) (h : Hp) (Q : Int32 → Hp → Prop) : Prop :=
  hasC h a0 0 ∧ (∃ k4 k5 : Nat, 0 + k4 ≤ mc ∧ 0 + k5 ≤ ms ∧ (w_X1_ofDie k4 k5 a0 i1 i2 h (fun E9 h9 => (E9 = "java/lang/IndexOutOfBoundsException" ∧ (Q (1 : Int32) h9)) ∨ (E9 = "java/lang/IllegalArgumentException" ∧ (Q (2 : Int32) h9))) (fun r2 h3 => wrL h3 a3 (0 : Int32) r2.toInt64 (fun h8 => Q (0 : Int32) h8))))
theorem sg_X0_ofDie : ySg yX0_ofDie 4 = true := by decide +kernel
theorem c_X0_ofDie (G : gT) (l : Launch) (mc ms : Nat) (a0 : Nat) (i1 : Int32) (i2 : Int32) (a3 : Nat) (h : Hp) (Q : Int32 → Hp → Prop) (hst : l.stackTraces = false) (hw : w_X0_ofDie mc ms a0 i1 i2 a3 h Q) : Ct G l yX0_ofDie (wsW_ yX0_ofDie cX0_ofDie 5 (some .int) hh_X0_ofDie) 13 288 mc ms [.ref a0, .int i1, .int i2, .ref a3] h (pI Q) := by
  refine CtW.of (own := RX0) (by decide +kernel) rfl (show (_ : Nat) ≤ _ from Nat.le_of_ble_eq_true rfl) (fun V C => ?_)
  show V h 0 0 0 [(0, .ref a0), (1, .int i1), (2, .int i2), (3, .ref a3)] []
  unfold w_X0_ofDie at hw
  refine r_aload_n C rfl 3 rfl dX0_ofDie_0 (r_iconst (v := (0 : Int32)) C (by decide) dX0_ofDie_1 (r_aload_n C rfl 0 rfl dX0_ofDie_2 (r_iload_n C rfl 1 rfl dX0_ofDie_3 (r_iload_n C rfl 2 rfl dX0_ofDie_4 ?_))))
  obtain ⟨hq1, hw⟩ := hw
  obtain ⟨k4, k5, hp6, hp7, hw⟩ := hw
  refine r_callVH (ci := 0) (rest := [.int (0 : Int32), .ref a3]) (As := [.int i1, .int i2]) C (by decide) sg_X1_ofDie rfl rfl q1616 q1617 q1618 q77 q1619 rfl (Nat.le_of_ble_eq_true rfl) dX0_ofDie_5 rfl hq1 hp6 hp7 (c_X1_ofDie G l k4 k5 a0 i1 i2 h _ _ hst hw) (fun E9 h9 hX9 => ?_) (k_I (fun r2 h3 hw => ?_))
  · rcases hX9 with ⟨rfl, hw⟩ | ⟨rfl, hw⟩
    · refine ⟨(tableOf hh_X0_ofDie).take 0, _, (tableOf hh_X0_ofDie).drop 1, "java/lang/IndexOutOfBoundsException", rfl, ?_, by decide, by decide, q1579, (List.mem_of_getElem? (i := 9) rfl), fun q9 => ?_⟩
      · intro z hz
        cases hz
      · show V h9 _ _ 13 _ _
        refine r_astore (L' := [(4, .ref q9), (0, .ref a0), (1, .int i1), (2, .int i2), (3, .ref a3)]) C (by decide) rfl dX0_ofDie_13 (r_iconst (v := (1 : Int32)) C (by decide) dX0_ofDie_15 ?_)
        exact r_ireturn C dX0_ofDie_16 hp6 hp7 ⟨_, rfl, hw⟩
    · refine ⟨(tableOf hh_X0_ofDie).take 1, _, (tableOf hh_X0_ofDie).drop 2, "java/lang/IllegalArgumentException", rfl, ?_, by decide, by decide, q1325, (List.mem_of_getElem? (i := 11) rfl), fun q9 => ?_⟩
      · intro z hz
        cases hz with
        | head => exact Or.inr ⟨by decide, "java/lang/IndexOutOfBoundsException", q1579, List.mem_of_getElem? (i := 1) rfl⟩
        | tail _ hz => cases hz
      · show V h9 _ _ 17 _ _
        refine r_astore (L' := [(4, .ref q9), (0, .ref a0), (1, .int i1), (2, .int i2), (3, .ref a3)]) C (by decide) rfl dX0_ofDie_17 (r_iconst (v := (2 : Int32)) C (by decide) dX0_ofDie_19 ?_)
        exact r_ireturn C dX0_ofDie_20 hp6 hp7 ⟨_, rfl, hw⟩
  refine r_i2l C dX0_ofDie_8 ?_
  refine r_lastore C dX0_ofDie_9 hw (fun h8 hw => ?_)
  refine r_goto (tgt := 21) C (by decide) dX0_ofDie_10 (r_iconst (v := (0 : Int32)) C (by decide) dX0_ofDie_21 ?_)
  exact r_ireturn C dX0_ofDie_22 hp6 hp7 ⟨_, rfl, hw⟩
abbrev hh_X0_crackYear : List (Nat × Nat × Nat × Nat) := [(0, 10, 13, 28)]
def w_X0_crackYear (mc ms : Nat) (a0 : Nat) (i1 : Int32) (i2 : Int32) (a3 : Nat) (h : Hp) (Q : Int32 → Hp → Prop) : Prop :=
  hasC h a0 0 ∧ (∃ k4 k5 : Nat, 0 + k4 ≤ mc ∧ 0 + k5 ≤ ms ∧ (w_X1_crackYear k4 k5 a0 i1 i2 h (fun E9 h9 => (E9 = "java/lang/IndexOutOfBoundsException" ∧ (Q (1 : Int32) h9))) (fun r2 h3 => wrL h3 a3 (0 : Int32) r2.toInt64 (fun h8 => Q (0 : Int32) h8))))
theorem sg_X0_crackYear : ySg yX0_crackYear 4 = true := by decide +kernel
theorem c_X0_crackYear (G : gT) (l : Launch) (mc ms : Nat) (a0 : Nat) (i1 : Int32) (i2 : Int32) (a3 : Nat) (h : Hp) (Q : Int32 → Hp → Prop) (hst : l.stackTraces = false) (hw : w_X0_crackYear mc ms a0 i1 i2 a3 h Q) : Ct G l yX0_crackYear (wsW_ yX0_crackYear cX0_crackYear 5 (some .int) hh_X0_crackYear) 8 132 mc ms [.ref a0, .int i1, .int i2, .ref a3] h (pI Q) := by
  refine CtW.of (own := RX0) (by decide +kernel) rfl (show (_ : Nat) ≤ _ from Nat.le_of_ble_eq_true rfl) (fun V C => ?_)
  show V h 0 0 0 [(0, .ref a0), (1, .int i1), (2, .int i2), (3, .ref a3)] []
  unfold w_X0_crackYear at hw
  refine r_aload_n C rfl 3 rfl dX0_crackYear_0 (r_iconst (v := (0 : Int32)) C (by decide) dX0_crackYear_1 (r_aload_n C rfl 0 rfl dX0_crackYear_2 (r_iload_n C rfl 1 rfl dX0_crackYear_3 (r_iload_n C rfl 2 rfl dX0_crackYear_4 ?_))))
  obtain ⟨hq1, hw⟩ := hw
  obtain ⟨k4, k5, hp6, hp7, hw⟩ := hw
  refine r_callVH (ci := 0) (rest := [.int (0 : Int32), .ref a3]) (As := [.int i1, .int i2]) C (by decide) sg_X1_crackYear rfl rfl q1623 q1624 q1625 q77 q1626 rfl (Nat.le_of_ble_eq_true rfl) dX0_crackYear_5 rfl hq1 hp6 hp7 (c_X1_crackYear G l k4 k5 a0 i1 i2 h _ _ hst hw) (fun E9 h9 hX9 => ?_) (k_I (fun r2 h3 hw => ?_))
  · rcases hX9 with ⟨rfl, hw⟩
    refine ⟨(tableOf hh_X0_crackYear).take 0, _, (tableOf hh_X0_crackYear).drop 1, "java/lang/IndexOutOfBoundsException", rfl, ?_, by decide, by decide, q1579, (List.mem_of_getElem? (i := 9) rfl), fun q9 => ?_⟩
    · intro z hz
      cases hz
    · show V h9 _ _ 13 _ _
      refine r_astore (L' := [(4, .ref q9), (0, .ref a0), (1, .int i1), (2, .int i2), (3, .ref a3)]) C (by decide) rfl dX0_crackYear_13 (r_iconst (v := (1 : Int32)) C (by decide) dX0_crackYear_15 ?_)
      exact r_ireturn C dX0_crackYear_16 hp6 hp7 ⟨_, rfl, hw⟩
  refine r_i2l C dX0_crackYear_8 ?_
  refine r_lastore C dX0_crackYear_9 hw (fun h8 hw => ?_)
  refine r_goto (tgt := 17) C (by decide) dX0_crackYear_10 (r_iconst (v := (0 : Int32)) C (by decide) dX0_crackYear_17 ?_)
  exact r_ireturn C dX0_crackYear_18 hp6 hp7 ⟨_, rfl, hw⟩
abbrev hh_X0_ofSeal : List (Nat × Nat × Nat × Nat) := [(0, 10, 13, 28), (0, 10, 17, 13)]
def w_X0_ofSeal (mc ms : Nat) (a0 : Nat) (i1 : Int32) (i2 : Int32) (a3 : Nat) (h : Hp) (Q : Int32 → Hp → Prop) : Prop :=
  hasC h a0 0 ∧ (∃ k4 k5 : Nat, 0 + k4 ≤ mc ∧ 0 + k5 ≤ ms ∧ (w_X1_ofSeal k4 k5 a0 i1 i2 h (fun E9 h9 => (E9 = "java/lang/IndexOutOfBoundsException" ∧ (Q (1 : Int32) h9)) ∨ (E9 = "java/lang/IllegalArgumentException" ∧ (Q (2 : Int32) h9))) (fun r2 h3 => wrL h3 a3 (0 : Int32) r2.toInt64 (fun h8 => Q (0 : Int32) h8))))
theorem sg_X0_ofSeal : ySg yX0_ofSeal 4 = true := by decide +kernel
theorem c_X0_ofSeal (G : gT) (l : Launch) (mc ms : Nat) (a0 : Nat) (i1 : Int32) (i2 : Int32) (a3 : Nat) (h : Hp) (Q : Int32 → Hp → Prop) (hst : l.stackTraces = false) (hw : w_X0_ofSeal mc ms a0 i1 i2 a3 h Q) : Ct G l yX0_ofSeal (wsW_ yX0_ofSeal cX0_ofSeal 5 (some .int) hh_X0_ofSeal) 8 143 mc ms [.ref a0, .int i1, .int i2, .ref a3] h (pI Q) := by
  refine CtW.of (own := RX0) (by decide +kernel) rfl (show (_ : Nat) ≤ _ from Nat.le_of_ble_eq_true rfl) (fun V C => ?_)
  show V h 0 0 0 [(0, .ref a0), (1, .int i1), (2, .int i2), (3, .ref a3)] []
  unfold w_X0_ofSeal at hw
  refine r_aload_n C rfl 3 rfl dX0_ofSeal_0 (r_iconst (v := (0 : Int32)) C (by decide) dX0_ofSeal_1 (r_aload_n C rfl 0 rfl dX0_ofSeal_2 (r_iload_n C rfl 1 rfl dX0_ofSeal_3 (r_iload_n C rfl 2 rfl dX0_ofSeal_4 ?_))))
  obtain ⟨hq1, hw⟩ := hw
  obtain ⟨k4, k5, hp6, hp7, hw⟩ := hw
  refine r_callVH (ci := 0) (rest := [.int (0 : Int32), .ref a3]) (As := [.int i1, .int i2]) C (by decide) sg_X1_ofSeal rfl rfl q1632 q1633 q1634 q77 q1635 rfl (Nat.le_of_ble_eq_true rfl) dX0_ofSeal_5 rfl hq1 hp6 hp7 (c_X1_ofSeal G l k4 k5 a0 i1 i2 h _ _ hst hw) (fun E9 h9 hX9 => ?_) (k_I (fun r2 h3 hw => ?_))
  · rcases hX9 with ⟨rfl, hw⟩ | ⟨rfl, hw⟩
    · refine ⟨(tableOf hh_X0_ofSeal).take 0, _, (tableOf hh_X0_ofSeal).drop 1, "java/lang/IndexOutOfBoundsException", rfl, ?_, by decide, by decide, q1579, (List.mem_of_getElem? (i := 9) rfl), fun q9 => ?_⟩
      · intro z hz
        cases hz
      · show V h9 _ _ 13 _ _
        refine r_astore (L' := [(4, .ref q9), (0, .ref a0), (1, .int i1), (2, .int i2), (3, .ref a3)]) C (by decide) rfl dX0_ofSeal_13 (r_iconst (v := (1 : Int32)) C (by decide) dX0_ofSeal_15 ?_)
        exact r_ireturn C dX0_ofSeal_16 hp6 hp7 ⟨_, rfl, hw⟩
    · refine ⟨(tableOf hh_X0_ofSeal).take 1, _, (tableOf hh_X0_ofSeal).drop 2, "java/lang/IllegalArgumentException", rfl, ?_, by decide, by decide, q1325, (List.mem_of_getElem? (i := 11) rfl), fun q9 => ?_⟩
      · intro z hz
        cases hz with
        | head => exact Or.inr ⟨by decide, "java/lang/IndexOutOfBoundsException", q1579, List.mem_of_getElem? (i := 1) rfl⟩
        | tail _ hz => cases hz
      · show V h9 _ _ 17 _ _
        refine r_astore (L' := [(4, .ref q9), (0, .ref a0), (1, .int i1), (2, .int i2), (3, .ref a3)]) C (by decide) rfl dX0_ofSeal_17 (r_iconst (v := (2 : Int32)) C (by decide) dX0_ofSeal_19 ?_)
        exact r_ireturn C dX0_ofSeal_20 hp6 hp7 ⟨_, rfl, hw⟩
  refine r_i2l C dX0_ofSeal_8 ?_
  refine r_lastore C dX0_ofSeal_9 hw (fun h8 hw => ?_)
  refine r_goto (tgt := 21) C (by decide) dX0_ofSeal_10 (r_iconst (v := (0 : Int32)) C (by decide) dX0_ofSeal_21 ?_)
  exact r_ireturn C dX0_ofSeal_22 hp6 hp7 ⟨_, rfl, hw⟩
abbrev hh_X0_dated : List (Nat × Nat × Nat × Nat) := [(0, 10, 13, 28), (0, 10, 17, 13)]
def w_X0_dated (mc ms : Nat) (a0 : Nat) (i1 : Int32) (i2 : Int32) (a3 : Nat) (h : Hp) (Q : Int32 → Hp → Prop) : Prop :=
  hasC h a0 0 ∧ (∃ k4 k5 : Nat, 0 + k4 ≤ mc ∧ 0 + k5 ≤ ms ∧ (w_X1_dated k4 k5 a0 i1 i2 h (fun E9 h9 => (E9 = "java/lang/IndexOutOfBoundsException" ∧ (Q (1 : Int32) h9)) ∨ (E9 = "java/lang/IllegalArgumentException" ∧ (Q (2 : Int32) h9))) (fun r2 h3 => wrL h3 a3 (0 : Int32) r2.toInt64 (fun h8 => Q (0 : Int32) h8))))
theorem sg_X0_dated : ySg yX0_dated 4 = true := by decide +kernel
theorem c_X0_dated (G : gT) (l : Launch) (mc ms : Nat) (a0 : Nat) (i1 : Int32) (i2 : Int32) (a3 : Nat) (h : Hp) (Q : Int32 → Hp → Prop) (hst : l.stackTraces = false) (hw : w_X0_dated mc ms a0 i1 i2 a3 h Q) : Ct G l yX0_dated (wsW_ yX0_dated cX0_dated 5 (some .int) hh_X0_dated) 13 284 mc ms [.ref a0, .int i1, .int i2, .ref a3] h (pI Q) := by
  refine CtW.of (own := RX0) (by decide +kernel) rfl (show (_ : Nat) ≤ _ from Nat.le_of_ble_eq_true rfl) (fun V C => ?_)
  show V h 0 0 0 [(0, .ref a0), (1, .int i1), (2, .int i2), (3, .ref a3)] []
  unfold w_X0_dated at hw
  refine r_aload_n C rfl 3 rfl dX0_dated_0 (r_iconst (v := (0 : Int32)) C (by decide) dX0_dated_1 (r_aload_n C rfl 0 rfl dX0_dated_2 (r_iload_n C rfl 1 rfl dX0_dated_3 (r_iload_n C rfl 2 rfl dX0_dated_4 ?_))))
  obtain ⟨hq1, hw⟩ := hw
  obtain ⟨k4, k5, hp6, hp7, hw⟩ := hw
  refine r_callVH (ci := 0) (rest := [.int (0 : Int32), .ref a3]) (As := [.int i1, .int i2]) C (by decide) sg_X1_dated rfl rfl q1647 q1648 q1649 q77 q1650 rfl (Nat.le_of_ble_eq_true rfl) dX0_dated_5 rfl hq1 hp6 hp7 (c_X1_dated G l k4 k5 a0 i1 i2 h _ _ hst hw) (fun E9 h9 hX9 => ?_) (k_I (fun r2 h3 hw => ?_))
  · rcases hX9 with ⟨rfl, hw⟩ | ⟨rfl, hw⟩
    · refine ⟨(tableOf hh_X0_dated).take 0, _, (tableOf hh_X0_dated).drop 1, "java/lang/IndexOutOfBoundsException", rfl, ?_, by decide, by decide, q1579, (List.mem_of_getElem? (i := 9) rfl), fun q9 => ?_⟩
      · intro z hz
        cases hz
      · show V h9 _ _ 13 _ _
        refine r_astore (L' := [(4, .ref q9), (0, .ref a0), (1, .int i1), (2, .int i2), (3, .ref a3)]) C (by decide) rfl dX0_dated_13 (r_iconst (v := (1 : Int32)) C (by decide) dX0_dated_15 ?_)
        exact r_ireturn C dX0_dated_16 hp6 hp7 ⟨_, rfl, hw⟩
    · refine ⟨(tableOf hh_X0_dated).take 1, _, (tableOf hh_X0_dated).drop 2, "java/lang/IllegalArgumentException", rfl, ?_, by decide, by decide, q1325, (List.mem_of_getElem? (i := 11) rfl), fun q9 => ?_⟩
      · intro z hz
        cases hz with
        | head => exact Or.inr ⟨by decide, "java/lang/IndexOutOfBoundsException", q1579, List.mem_of_getElem? (i := 1) rfl⟩
        | tail _ hz => cases hz
      · show V h9 _ _ 17 _ _
        refine r_astore (L' := [(4, .ref q9), (0, .ref a0), (1, .int i1), (2, .int i2), (3, .ref a3)]) C (by decide) rfl dX0_dated_17 (r_iconst (v := (2 : Int32)) C (by decide) dX0_dated_19 ?_)
        exact r_ireturn C dX0_dated_20 hp6 hp7 ⟨_, rfl, hw⟩
  refine r_i2l C dX0_dated_8 ?_
  refine r_lastore C dX0_dated_9 hw (fun h8 hw => ?_)
  refine r_goto (tgt := 21) C (by decide) dX0_dated_10 (r_iconst (v := (0 : Int32)) C (by decide) dX0_dated_21 ?_)
  exact r_ireturn C dX0_dated_22 hp6 hp7 ⟨_, rfl, hw⟩
abbrev hh_X0_isPossible : List (Nat × Nat × Nat × Nat) := [(0, 17, 20, 28), (0, 17, 24, 13)]
def w_X0_isPossible (mc ms : Nat) (a0 : Nat) (i1 : Int32) (i2 : Int32) (a3 : Nat) (h : Hp) (Q : Int32 → Hp → Prop) : Prop :=
  hasC h a0 0 ∧ (∃ k4 k5 : Nat, 0 + k4 ≤ mc ∧ 0 + k5 ≤ ms ∧ (w_X1_isPossible k4 k5 a0 i1 i2 h (fun E9 h9 => (E9 = "java/lang/IndexOutOfBoundsException" ∧ (Q (1 : Int32) h9)) ∨ (E9 = "java/lang/IllegalArgumentException" ∧ (Q (2 : Int32) h9))) (fun r2 h3 => wrL h3 a3 (0 : Int32) (if r2 = false then (0 : Int64) else (1 : Int64)) (fun h8 => Q (0 : Int32) h8))))
theorem sg_X0_isPossible : ySg yX0_isPossible 4 = true := by decide +kernel
theorem c_X0_isPossible (G : gT) (l : Launch) (mc ms : Nat) (a0 : Nat) (i1 : Int32) (i2 : Int32) (a3 : Nat) (h : Hp) (Q : Int32 → Hp → Prop) (hst : l.stackTraces = false) (hw : w_X0_isPossible mc ms a0 i1 i2 a3 h Q) : Ct G l yX0_isPossible (wsW_ yX0_isPossible cX0_isPossible 5 (some .int) hh_X0_isPossible) 10 213 mc ms [.ref a0, .int i1, .int i2, .ref a3] h (pI Q) := by
  refine CtW.of (own := RX0) (by decide +kernel) rfl (show (_ : Nat) ≤ _ from Nat.le_of_ble_eq_true rfl) (fun V C => ?_)
  show V h 0 0 0 [(0, .ref a0), (1, .int i1), (2, .int i2), (3, .ref a3)] []
  unfold w_X0_isPossible at hw
  refine r_aload_n C rfl 3 rfl dX0_isPossible_0 (r_iconst (v := (0 : Int32)) C (by decide) dX0_isPossible_1 (r_aload_n C rfl 0 rfl dX0_isPossible_2 (r_iload_n C rfl 1 rfl dX0_isPossible_3 (r_iload_n C rfl 2 rfl dX0_isPossible_4 ?_))))
  obtain ⟨hq1, hw⟩ := hw
  obtain ⟨k4, k5, hp6, hp7, hw⟩ := hw
  refine r_callVH (ci := 0) (rest := [.int (0 : Int32), .ref a3]) (As := [.int i1, .int i2]) C (by decide) sg_X1_isPossible rfl rfl q1685 q1686 q1687 q77 q1688 rfl (Nat.le_of_ble_eq_true rfl) dX0_isPossible_5 rfl hq1 hp6 hp7 (c_X1_isPossible G l k4 k5 a0 i1 i2 h _ _ hst hw) (fun E9 h9 hX9 => ?_) (k_Z (fun r2 h3 hw => ?_))
  · rcases hX9 with ⟨rfl, hw⟩ | ⟨rfl, hw⟩
    · refine ⟨(tableOf hh_X0_isPossible).take 0, _, (tableOf hh_X0_isPossible).drop 1, "java/lang/IndexOutOfBoundsException", rfl, ?_, by decide, by decide, q1579, (List.mem_of_getElem? (i := 9) rfl), fun q9 => ?_⟩
      · intro z hz
        cases hz
      · show V h9 _ _ 20 _ _
        refine r_astore (L' := [(4, .ref q9), (0, .ref a0), (1, .int i1), (2, .int i2), (3, .ref a3)]) C (by decide) rfl dX0_isPossible_20 (r_iconst (v := (1 : Int32)) C (by decide) dX0_isPossible_22 ?_)
        exact r_ireturn C dX0_isPossible_23 hp6 hp7 ⟨_, rfl, hw⟩
    · refine ⟨(tableOf hh_X0_isPossible).take 1, _, (tableOf hh_X0_isPossible).drop 2, "java/lang/IllegalArgumentException", rfl, ?_, by decide, by decide, q1325, (List.mem_of_getElem? (i := 11) rfl), fun q9 => ?_⟩
      · intro z hz
        cases hz with
        | head => exact Or.inr ⟨by decide, "java/lang/IndexOutOfBoundsException", q1579, List.mem_of_getElem? (i := 1) rfl⟩
        | tail _ hz => cases hz
      · show V h9 _ _ 24 _ _
        refine r_astore (L' := [(4, .ref q9), (0, .ref a0), (1, .int i1), (2, .int i2), (3, .ref a3)]) C (by decide) rfl dX0_isPossible_24 (r_iconst (v := (2 : Int32)) C (by decide) dX0_isPossible_26 ?_)
        exact r_ireturn C dX0_isPossible_27 hp6 hp7 ⟨_, rfl, hw⟩
  have hJ : V h3 (0 + k4) (0 + k5) 16 [] [.long (if r2 = false then (0 : Int64) else (1 : Int64)), .int (0 : Int32), .ref a3] := by
    refine r_lastore C dX0_isPossible_16 hw (fun h8 hw => ?_)
    refine r_goto (tgt := 28) C (by decide) dX0_isPossible_17 (r_iconst (v := (0 : Int32)) C (by decide) dX0_isPossible_28 ?_)
    exact r_ireturn C dX0_isPossible_29 hp6 hp7 ⟨_, rfl, hw⟩
  refine r_if_eq_b (tgt := 15) C (by decide) dX0_isPossible_8 (fun hc9 => ?_) (fun hc9 => ?_)
  · have hJ10 := hJ
    try simp only [if_pos hc9] at hJ10
    refine r_lconst (v := (0 : Int64)) C (by decide) dX0_isPossible_15 ?_
    exact r_sub C [] rfl hJ10
  · have hJ10 := hJ
    try simp only [if_neg (show ¬ r2 = false from by rw [hc9]; decide)] at hJ10
    refine r_lconst (v := (1 : Int64)) C (by decide) dX0_isPossible_11 (r_goto (tgt := 16) C (by decide) dX0_isPossible_12 ?_)
    exact r_sub C [] rfl hJ10
abbrev hh_X0_charter : List (Nat × Nat × Nat × Nat) := [(0, 10, 13, 28), (0, 10, 17, 13)]
def w_X0_charter (mc ms : Nat) (a0 : Nat) (i1 : Int32) (i2 : Int32) (a3 : Nat) (h : Hp) (Q : Int32 → Hp → Prop) : Prop :=
  hasC h a0 0 ∧ (∃ k4 k5 : Nat, 0 + k4 ≤ mc ∧ 0 + k5 ≤ ms ∧ (w_X1_charter k4 k5 a0 i1 i2 h (fun E9 h9 => (E9 = "java/lang/IndexOutOfBoundsException" ∧ (Q (1 : Int32) h9)) ∨ (E9 = "java/lang/IllegalArgumentException" ∧ (Q (2 : Int32) h9))) (fun r2 h3 => wrL h3 a3 (0 : Int32) r2.toInt64 (fun h8 => Q (0 : Int32) h8))))
theorem sg_X0_charter : ySg yX0_charter 4 = true := by decide +kernel
theorem c_X0_charter (G : gT) (l : Launch) (mc ms : Nat) (a0 : Nat) (i1 : Int32) (i2 : Int32) (a3 : Nat) (h : Hp) (Q : Int32 → Hp → Prop) (hst : l.stackTraces = false) (hw : w_X0_charter mc ms a0 i1 i2 a3 h Q) : Ct G l yX0_charter (wsW_ yX0_charter cX0_charter 5 (some .int) hh_X0_charter) 13 287 mc ms [.ref a0, .int i1, .int i2, .ref a3] h (pI Q) := by
  refine CtW.of (own := RX0) (by decide +kernel) rfl (show (_ : Nat) ≤ _ from Nat.le_of_ble_eq_true rfl) (fun V C => ?_)
  show V h 0 0 0 [(0, .ref a0), (1, .int i1), (2, .int i2), (3, .ref a3)] []
  unfold w_X0_charter at hw
  refine r_aload_n C rfl 3 rfl dX0_charter_0 (r_iconst (v := (0 : Int32)) C (by decide) dX0_charter_1 (r_aload_n C rfl 0 rfl dX0_charter_2 (r_iload_n C rfl 1 rfl dX0_charter_3 (r_iload_n C rfl 2 rfl dX0_charter_4 ?_))))
  obtain ⟨hq1, hw⟩ := hw
  obtain ⟨k4, k5, hp6, hp7, hw⟩ := hw
  refine r_callVH (ci := 0) (rest := [.int (0 : Int32), .ref a3]) (As := [.int i1, .int i2]) C (by decide) sg_X1_charter rfl rfl q1696 q1697 q1698 q77 q1699 rfl (Nat.le_of_ble_eq_true rfl) dX0_charter_5 rfl hq1 hp6 hp7 (c_X1_charter G l k4 k5 a0 i1 i2 h _ _ hst hw) (fun E9 h9 hX9 => ?_) (k_I (fun r2 h3 hw => ?_))
  · rcases hX9 with ⟨rfl, hw⟩ | ⟨rfl, hw⟩
    · refine ⟨(tableOf hh_X0_charter).take 0, _, (tableOf hh_X0_charter).drop 1, "java/lang/IndexOutOfBoundsException", rfl, ?_, by decide, by decide, q1579, (List.mem_of_getElem? (i := 9) rfl), fun q9 => ?_⟩
      · intro z hz
        cases hz
      · show V h9 _ _ 13 _ _
        refine r_astore (L' := [(4, .ref q9), (0, .ref a0), (1, .int i1), (2, .int i2), (3, .ref a3)]) C (by decide) rfl dX0_charter_13 (r_iconst (v := (1 : Int32)) C (by decide) dX0_charter_15 ?_)
        exact r_ireturn C dX0_charter_16 hp6 hp7 ⟨_, rfl, hw⟩
    · refine ⟨(tableOf hh_X0_charter).take 1, _, (tableOf hh_X0_charter).drop 2, "java/lang/IllegalArgumentException", rfl, ?_, by decide, by decide, q1325, (List.mem_of_getElem? (i := 11) rfl), fun q9 => ?_⟩
      · intro z hz
        cases hz with
        | head => exact Or.inr ⟨by decide, "java/lang/IndexOutOfBoundsException", q1579, List.mem_of_getElem? (i := 1) rfl⟩
        | tail _ hz => cases hz
      · show V h9 _ _ 17 _ _
        refine r_astore (L' := [(4, .ref q9), (0, .ref a0), (1, .int i1), (2, .int i2), (3, .ref a3)]) C (by decide) rfl dX0_charter_17 (r_iconst (v := (2 : Int32)) C (by decide) dX0_charter_19 ?_)
        exact r_ireturn C dX0_charter_20 hp6 hp7 ⟨_, rfl, hw⟩
  refine r_i2l C dX0_charter_8 ?_
  refine r_lastore C dX0_charter_9 hw (fun h8 hw => ?_)
  refine r_goto (tgt := 21) C (by decide) dX0_charter_10 (r_iconst (v := (0 : Int32)) C (by decide) dX0_charter_21 ?_)
  exact r_ireturn C dX0_charter_22 hp6 hp7 ⟨_, rfl, hw⟩
abbrev hh_X0_onShelf : List (Nat × Nat × Nat × Nat) := [(0, 10, 13, 28), (0, 10, 17, 13)]
def w_X0_onShelf (mc ms : Nat) (a0 : Nat) (i1 : Int32) (i2 : Int32) (a3 : Nat) (h : Hp) (Q : Int32 → Hp → Prop) : Prop :=
  hasC h a0 0 ∧ (∃ k4 k5 : Nat, 0 + k4 ≤ mc ∧ 0 + k5 ≤ ms ∧ (w_X1_onShelf k4 k5 a0 i1 i2 h (fun E9 h9 => (E9 = "java/lang/IndexOutOfBoundsException" ∧ (Q (1 : Int32) h9)) ∨ (E9 = "java/lang/IllegalArgumentException" ∧ (Q (2 : Int32) h9))) (fun r2 h3 => wrL h3 a3 (0 : Int32) r2.toInt64 (fun h8 => Q (0 : Int32) h8))))
theorem sg_X0_onShelf : ySg yX0_onShelf 4 = true := by decide +kernel
theorem c_X0_onShelf (G : gT) (l : Launch) (mc ms : Nat) (a0 : Nat) (i1 : Int32) (i2 : Int32) (a3 : Nat) (h : Hp) (Q : Int32 → Hp → Prop) (hst : l.stackTraces = false) (hw : w_X0_onShelf mc ms a0 i1 i2 a3 h Q) : Ct G l yX0_onShelf (wsW_ yX0_onShelf cX0_onShelf 5 (some .int) hh_X0_onShelf) 8 132 mc ms [.ref a0, .int i1, .int i2, .ref a3] h (pI Q) := by
  refine CtW.of (own := RX0) (by decide +kernel) rfl (show (_ : Nat) ≤ _ from Nat.le_of_ble_eq_true rfl) (fun V C => ?_)
  show V h 0 0 0 [(0, .ref a0), (1, .int i1), (2, .int i2), (3, .ref a3)] []
  unfold w_X0_onShelf at hw
  refine r_aload_n C rfl 3 rfl dX0_onShelf_0 (r_iconst (v := (0 : Int32)) C (by decide) dX0_onShelf_1 (r_aload_n C rfl 0 rfl dX0_onShelf_2 (r_iload_n C rfl 1 rfl dX0_onShelf_3 (r_iload_n C rfl 2 rfl dX0_onShelf_4 ?_))))
  obtain ⟨hq1, hw⟩ := hw
  obtain ⟨k4, k5, hp6, hp7, hw⟩ := hw
  refine r_callVH (ci := 0) (rest := [.int (0 : Int32), .ref a3]) (As := [.int i1, .int i2]) C (by decide) sg_X1_onShelf rfl rfl q1708 q1709 q1710 q77 q1711 rfl (Nat.le_of_ble_eq_true rfl) dX0_onShelf_5 rfl hq1 hp6 hp7 (c_X1_onShelf G l k4 k5 a0 i1 i2 h _ _ hst hw) (fun E9 h9 hX9 => ?_) (k_I (fun r2 h3 hw => ?_))
  · rcases hX9 with ⟨rfl, hw⟩ | ⟨rfl, hw⟩
    · refine ⟨(tableOf hh_X0_onShelf).take 0, _, (tableOf hh_X0_onShelf).drop 1, "java/lang/IndexOutOfBoundsException", rfl, ?_, by decide, by decide, q1579, (List.mem_of_getElem? (i := 9) rfl), fun q9 => ?_⟩
      · intro z hz
        cases hz
      · show V h9 _ _ 13 _ _
        refine r_astore (L' := [(4, .ref q9), (0, .ref a0), (1, .int i1), (2, .int i2), (3, .ref a3)]) C (by decide) rfl dX0_onShelf_13 (r_iconst (v := (1 : Int32)) C (by decide) dX0_onShelf_15 ?_)
        exact r_ireturn C dX0_onShelf_16 hp6 hp7 ⟨_, rfl, hw⟩
    · refine ⟨(tableOf hh_X0_onShelf).take 1, _, (tableOf hh_X0_onShelf).drop 2, "java/lang/IllegalArgumentException", rfl, ?_, by decide, by decide, q1325, (List.mem_of_getElem? (i := 11) rfl), fun q9 => ?_⟩
      · intro z hz
        cases hz with
        | head => exact Or.inr ⟨by decide, "java/lang/IndexOutOfBoundsException", q1579, List.mem_of_getElem? (i := 1) rfl⟩
        | tail _ hz => cases hz
      · show V h9 _ _ 17 _ _
        refine r_astore (L' := [(4, .ref q9), (0, .ref a0), (1, .int i1), (2, .int i2), (3, .ref a3)]) C (by decide) rfl dX0_onShelf_17 (r_iconst (v := (2 : Int32)) C (by decide) dX0_onShelf_19 ?_)
        exact r_ireturn C dX0_onShelf_20 hp6 hp7 ⟨_, rfl, hw⟩
  refine r_i2l C dX0_onShelf_8 ?_
  refine r_lastore C dX0_onShelf_9 hw (fun h8 hw => ?_)
  refine r_goto (tgt := 21) C (by decide) dX0_onShelf_10 (r_iconst (v := (0 : Int32)) C (by decide) dX0_onShelf_21 ?_)
  exact r_ireturn C dX0_onShelf_22 hp6 hp7 ⟨_, rfl, hw⟩
abbrev hh_X0_reign : List (Nat × Nat × Nat × Nat) := [(0, 10, 13, 13), (0, 10, 17, 15)]
def w_X0_reign (mc ms : Nat) (a0 : Nat) (i1 : Int32) (i2 : Int32) (a3 : Nat) (h : Hp) (Q : Int32 → Hp → Prop) : Prop :=
  hasC h a0 0 ∧ (∃ k4 k5 : Nat, 0 + k4 ≤ mc ∧ 0 + k5 ≤ ms ∧ (w_X1_reign k4 k5 a0 i1 i2 h (fun E9 h9 => (E9 = "java/lang/IllegalArgumentException" ∧ (Q (1 : Int32) h9)) ∨ (E9 = "java/lang/IllegalStateException" ∧ (Q (2 : Int32) h9))) (fun r2 h3 => wrL h3 a3 (0 : Int32) r2.toInt64 (fun h8 => Q (0 : Int32) h8))))
theorem sg_X0_reign : ySg yX0_reign 4 = true := by decide +kernel
theorem c_X0_reign (G : gT) (l : Launch) (mc ms : Nat) (a0 : Nat) (i1 : Int32) (i2 : Int32) (a3 : Nat) (h : Hp) (Q : Int32 → Hp → Prop) (hst : l.stackTraces = false) (hw : w_X0_reign mc ms a0 i1 i2 a3 h Q) : Ct G l yX0_reign (wsW_ yX0_reign cX0_reign 5 (some .int) hh_X0_reign) 11 280 mc ms [.ref a0, .int i1, .int i2, .ref a3] h (pI Q) := by
  refine CtW.of (own := RX0) (by decide +kernel) rfl (show (_ : Nat) ≤ _ from Nat.le_of_ble_eq_true rfl) (fun V C => ?_)
  show V h 0 0 0 [(0, .ref a0), (1, .int i1), (2, .int i2), (3, .ref a3)] []
  unfold w_X0_reign at hw
  refine r_aload_n C rfl 3 rfl dX0_reign_0 (r_iconst (v := (0 : Int32)) C (by decide) dX0_reign_1 (r_aload_n C rfl 0 rfl dX0_reign_2 (r_iload_n C rfl 1 rfl dX0_reign_3 (r_iload_n C rfl 2 rfl dX0_reign_4 ?_))))
  obtain ⟨hq1, hw⟩ := hw
  obtain ⟨k4, k5, hp6, hp7, hw⟩ := hw
  refine r_callVH (ci := 0) (rest := [.int (0 : Int32), .ref a3]) (As := [.int i1, .int i2]) C (by decide) sg_X1_reign rfl rfl q1720 q1721 q1722 q77 q1723 rfl (Nat.le_of_ble_eq_true rfl) dX0_reign_5 rfl hq1 hp6 hp7 (c_X1_reign G l k4 k5 a0 i1 i2 h _ _ hst hw) (fun E9 h9 hX9 => ?_) (k_I (fun r2 h3 hw => ?_))
  · rcases hX9 with ⟨rfl, hw⟩ | ⟨rfl, hw⟩
    · refine ⟨(tableOf hh_X0_reign).take 0, _, (tableOf hh_X0_reign).drop 1, "java/lang/IllegalArgumentException", rfl, ?_, by decide, by decide, q1325, (List.mem_of_getElem? (i := 11) rfl), fun q9 => ?_⟩
      · intro z hz
        cases hz
      · show V h9 _ _ 13 _ _
        refine r_astore (L' := [(4, .ref q9), (0, .ref a0), (1, .int i1), (2, .int i2), (3, .ref a3)]) C (by decide) rfl dX0_reign_13 (r_iconst (v := (1 : Int32)) C (by decide) dX0_reign_15 ?_)
        exact r_ireturn C dX0_reign_16 hp6 hp7 ⟨_, rfl, hw⟩
    · refine ⟨(tableOf hh_X0_reign).take 1, _, (tableOf hh_X0_reign).drop 2, "java/lang/IllegalStateException", rfl, ?_, by decide, by decide, q1326, (List.mem_of_getElem? (i := 47) rfl), fun q9 => ?_⟩
      · intro z hz
        cases hz with
        | head => exact Or.inr ⟨by decide, "java/lang/IllegalArgumentException", q1325, List.mem_of_getElem? (i := 2) rfl⟩
        | tail _ hz => cases hz
      · show V h9 _ _ 17 _ _
        refine r_astore (L' := [(4, .ref q9), (0, .ref a0), (1, .int i1), (2, .int i2), (3, .ref a3)]) C (by decide) rfl dX0_reign_17 (r_iconst (v := (2 : Int32)) C (by decide) dX0_reign_19 ?_)
        exact r_ireturn C dX0_reign_20 hp6 hp7 ⟨_, rfl, hw⟩
  refine r_i2l C dX0_reign_8 ?_
  refine r_lastore C dX0_reign_9 hw (fun h8 hw => ?_)
  refine r_goto (tgt := 21) C (by decide) dX0_reign_10 (r_iconst (v := (0 : Int32)) C (by decide) dX0_reign_21 ?_)
  exact r_ireturn C dX0_reign_22 hp6 hp7 ⟨_, rfl, hw⟩
abbrev hh_X0_die : List (Nat × Nat × Nat × Nat) := [(0, 12, 15, 13), (0, 12, 19, 15)]
def w_X0_die (mc ms : Nat) (a0 : Nat) (i1 : Int32) (i2 : Int32) (i3 : Int32) (a4 : Nat) (h : Hp) (Q : Int32 → Hp → Prop) : Prop :=
  hasC h a0 0 ∧ (∃ k4 k5 : Nat, 0 + k4 ≤ mc ∧ 0 + k5 ≤ ms ∧ (w_X1_die k4 k5 a0 i1 i2 i3 h (fun E9 h9 => (E9 = "java/lang/IllegalArgumentException" ∧ (Q (1 : Int32) h9)) ∨ (E9 = "java/lang/IllegalStateException" ∧ (Q (2 : Int32) h9))) (fun r2 h3 => wrL h3 a4 (0 : Int32) r2.toInt64 (fun h8 => Q (0 : Int32) h8))))
theorem sg_X0_die : ySg yX0_die 5 = true := by decide +kernel
theorem c_X0_die (G : gT) (l : Launch) (mc ms : Nat) (a0 : Nat) (i1 : Int32) (i2 : Int32) (i3 : Int32) (a4 : Nat) (h : Hp) (Q : Int32 → Hp → Prop) (hst : l.stackTraces = false) (hw : w_X0_die mc ms a0 i1 i2 i3 a4 h Q) : Ct G l yX0_die (wsW_ yX0_die cX0_die 6 (some .int) hh_X0_die) 11 281 mc ms [.ref a0, .int i1, .int i2, .int i3, .ref a4] h (pI Q) := by
  refine CtW.of (own := RX0) (by decide +kernel) rfl (show (_ : Nat) ≤ _ from Nat.le_of_ble_eq_true rfl) (fun V C => ?_)
  show V h 0 0 0 [(0, .ref a0), (1, .int i1), (2, .int i2), (3, .int i3), (4, .ref a4)] []
  unfold w_X0_die at hw
  refine r_aload C 4 rfl dX0_die_0 (r_iconst (v := (0 : Int32)) C (by decide) dX0_die_2 (r_aload_n C rfl 0 rfl dX0_die_3 (r_iload_n C rfl 1 rfl dX0_die_4 (r_iload_n C rfl 2 rfl dX0_die_5 (r_iload_n C rfl 3 rfl dX0_die_6 ?_)))))
  obtain ⟨hq1, hw⟩ := hw
  obtain ⟨k4, k5, hp6, hp7, hw⟩ := hw
  refine r_callVH (ci := 0) (rest := [.int (0 : Int32), .ref a4]) (As := [.int i1, .int i2, .int i3]) C (by decide) sg_X1_die rfl rfl q1801 q1802 q1803 q77 q1804 rfl (Nat.le_of_ble_eq_true rfl) dX0_die_7 rfl hq1 hp6 hp7 (c_X1_die G l k4 k5 a0 i1 i2 i3 h _ _ hst hw) (fun E9 h9 hX9 => ?_) (k_I (fun r2 h3 hw => ?_))
  · rcases hX9 with ⟨rfl, hw⟩ | ⟨rfl, hw⟩
    · refine ⟨(tableOf hh_X0_die).take 0, _, (tableOf hh_X0_die).drop 1, "java/lang/IllegalArgumentException", rfl, ?_, by decide, by decide, q1325, (List.mem_of_getElem? (i := 11) rfl), fun q9 => ?_⟩
      · intro z hz
        cases hz
      · show V h9 _ _ 15 _ _
        refine r_astore (L' := [(5, .ref q9), (0, .ref a0), (1, .int i1), (2, .int i2), (3, .int i3), (4, .ref a4)]) C (by decide) rfl dX0_die_15 (r_iconst (v := (1 : Int32)) C (by decide) dX0_die_17 ?_)
        exact r_ireturn C dX0_die_18 hp6 hp7 ⟨_, rfl, hw⟩
    · refine ⟨(tableOf hh_X0_die).take 1, _, (tableOf hh_X0_die).drop 2, "java/lang/IllegalStateException", rfl, ?_, by decide, by decide, q1326, (List.mem_of_getElem? (i := 47) rfl), fun q9 => ?_⟩
      · intro z hz
        cases hz with
        | head => exact Or.inr ⟨by decide, "java/lang/IllegalArgumentException", q1325, List.mem_of_getElem? (i := 2) rfl⟩
        | tail _ hz => cases hz
      · show V h9 _ _ 19 _ _
        refine r_astore (L' := [(5, .ref q9), (0, .ref a0), (1, .int i1), (2, .int i2), (3, .int i3), (4, .ref a4)]) C (by decide) rfl dX0_die_19 (r_iconst (v := (2 : Int32)) C (by decide) dX0_die_21 ?_)
        exact r_ireturn C dX0_die_22 hp6 hp7 ⟨_, rfl, hw⟩
  refine r_i2l C dX0_die_10 ?_
  refine r_lastore C dX0_die_11 hw (fun h8 hw => ?_)
  refine r_goto (tgt := 23) C (by decide) dX0_die_12 (r_iconst (v := (0 : Int32)) C (by decide) dX0_die_23 ?_)
  exact r_ireturn C dX0_die_24 hp6 hp7 ⟨_, rfl, hw⟩
abbrev hh_X0_crack : List (Nat × Nat × Nat × Nat) := [(0, 10, 13, 28), (0, 10, 17, 13), (0, 10, 21, 15)]
def w_X0_crack (mc ms : Nat) (a0 : Nat) (i1 : Int32) (i2 : Int32) (a3 : Nat) (h : Hp) (Q : Int32 → Hp → Prop) : Prop :=
  hasC h a0 0 ∧ (∃ k4 k5 : Nat, 0 + k4 ≤ mc ∧ 0 + k5 ≤ ms ∧ (w_X1_crack k4 k5 a0 i1 i2 h (fun E9 h9 => (E9 = "java/lang/IndexOutOfBoundsException" ∧ (Q (1 : Int32) h9)) ∨ (E9 = "java/lang/IllegalArgumentException" ∧ (Q (2 : Int32) h9)) ∨ (E9 = "java/lang/IllegalStateException" ∧ (Q (3 : Int32) h9))) (fun r2 h3 => wrL h3 a3 (0 : Int32) r2.toInt64 (fun h8 => Q (0 : Int32) h8))))
theorem sg_X0_crack : ySg yX0_crack 4 = true := by decide +kernel
theorem c_X0_crack (G : gT) (l : Launch) (mc ms : Nat) (a0 : Nat) (i1 : Int32) (i2 : Int32) (a3 : Nat) (h : Hp) (Q : Int32 → Hp → Prop) (hst : l.stackTraces = false) (hw : w_X0_crack mc ms a0 i1 i2 a3 h Q) : Ct G l yX0_crack (wsW_ yX0_crack cX0_crack 5 (some .int) hh_X0_crack) 11 280 mc ms [.ref a0, .int i1, .int i2, .ref a3] h (pI Q) := by
  refine CtW.of (own := RX0) (by decide +kernel) rfl (show (_ : Nat) ≤ _ from Nat.le_of_ble_eq_true rfl) (fun V C => ?_)
  show V h 0 0 0 [(0, .ref a0), (1, .int i1), (2, .int i2), (3, .ref a3)] []
  unfold w_X0_crack at hw
  refine r_aload_n C rfl 3 rfl dX0_crack_0 (r_iconst (v := (0 : Int32)) C (by decide) dX0_crack_1 (r_aload_n C rfl 0 rfl dX0_crack_2 (r_iload_n C rfl 1 rfl dX0_crack_3 (r_iload_n C rfl 2 rfl dX0_crack_4 ?_))))
  obtain ⟨hq1, hw⟩ := hw
  obtain ⟨k4, k5, hp6, hp7, hw⟩ := hw
  refine r_callVH (ci := 0) (rest := [.int (0 : Int32), .ref a3]) (As := [.int i1, .int i2]) C (by decide) sg_X1_crack rfl rfl q1808 q1809 q1810 q77 q1811 rfl (Nat.le_of_ble_eq_true rfl) dX0_crack_5 rfl hq1 hp6 hp7 (c_X1_crack G l k4 k5 a0 i1 i2 h _ _ hst hw) (fun E9 h9 hX9 => ?_) (k_I (fun r2 h3 hw => ?_))
  · rcases hX9 with ⟨rfl, hw⟩ | ⟨rfl, hw⟩ | ⟨rfl, hw⟩
    · refine ⟨(tableOf hh_X0_crack).take 0, _, (tableOf hh_X0_crack).drop 1, "java/lang/IndexOutOfBoundsException", rfl, ?_, by decide, by decide, q1579, (List.mem_of_getElem? (i := 9) rfl), fun q9 => ?_⟩
      · intro z hz
        cases hz
      · show V h9 _ _ 13 _ _
        refine r_astore (L' := [(4, .ref q9), (0, .ref a0), (1, .int i1), (2, .int i2), (3, .ref a3)]) C (by decide) rfl dX0_crack_13 (r_iconst (v := (1 : Int32)) C (by decide) dX0_crack_15 ?_)
        exact r_ireturn C dX0_crack_16 hp6 hp7 ⟨_, rfl, hw⟩
    · refine ⟨(tableOf hh_X0_crack).take 1, _, (tableOf hh_X0_crack).drop 2, "java/lang/IllegalArgumentException", rfl, ?_, by decide, by decide, q1325, (List.mem_of_getElem? (i := 11) rfl), fun q9 => ?_⟩
      · intro z hz
        cases hz with
        | head => exact Or.inr ⟨by decide, "java/lang/IndexOutOfBoundsException", q1579, List.mem_of_getElem? (i := 1) rfl⟩
        | tail _ hz => cases hz
      · show V h9 _ _ 17 _ _
        refine r_astore (L' := [(4, .ref q9), (0, .ref a0), (1, .int i1), (2, .int i2), (3, .ref a3)]) C (by decide) rfl dX0_crack_17 (r_iconst (v := (2 : Int32)) C (by decide) dX0_crack_19 ?_)
        exact r_ireturn C dX0_crack_20 hp6 hp7 ⟨_, rfl, hw⟩
    · refine ⟨(tableOf hh_X0_crack).take 2, _, (tableOf hh_X0_crack).drop 3, "java/lang/IllegalStateException", rfl, ?_, by decide, by decide, q1326, (List.mem_of_getElem? (i := 47) rfl), fun q9 => ?_⟩
      · intro z hz
        cases hz with
        | head => exact Or.inr ⟨by decide, "java/lang/IndexOutOfBoundsException", q1579, List.mem_of_getElem? (i := 3) rfl⟩
        | tail _ hz =>
          cases hz with
          | head => exact Or.inr ⟨by decide, "java/lang/IllegalArgumentException", q1325, List.mem_of_getElem? (i := 2) rfl⟩
          | tail _ hz => cases hz
      · show V h9 _ _ 21 _ _
        refine r_astore (L' := [(4, .ref q9), (0, .ref a0), (1, .int i1), (2, .int i2), (3, .ref a3)]) C (by decide) rfl dX0_crack_21 (r_iconst (v := (3 : Int32)) C (by decide) dX0_crack_23 ?_)
        exact r_ireturn C dX0_crack_24 hp6 hp7 ⟨_, rfl, hw⟩
  refine r_i2l C dX0_crack_8 ?_
  refine r_lastore C dX0_crack_9 hw (fun h8 hw => ?_)
  refine r_goto (tgt := 25) C (by decide) dX0_crack_10 (r_iconst (v := (0 : Int32)) C (by decide) dX0_crack_25 ?_)
  exact r_ireturn C dX0_crack_26 hp6 hp7 ⟨_, rfl, hw⟩
abbrev hh_X0_seal : List (Nat × Nat × Nat × Nat) := [(0, 16, 19, 28), (0, 16, 23, 13), (0, 16, 27, 15)]
def w_X0_seal (mc ms : Nat) (a0 : Nat) (i1 : Int32) (i2 : Int32) (i3 : Int32) (i4 : Int32) (i5 : Int32) (a6 : Nat) (h : Hp) (Q : Int32 → Hp → Prop) : Prop :=
  hasC h a0 0 ∧ (∃ k4 k5 : Nat, 0 + k4 ≤ mc ∧ 0 + k5 ≤ ms ∧ (w_X1_seal k4 k5 a0 i1 i2 i3 i4 i5 h (fun E9 h9 => (E9 = "java/lang/IndexOutOfBoundsException" ∧ (Q (1 : Int32) h9)) ∨ (E9 = "java/lang/IllegalArgumentException" ∧ (Q (2 : Int32) h9)) ∨ (E9 = "java/lang/IllegalStateException" ∧ (Q (3 : Int32) h9))) (fun r2 h3 => wrL h3 a6 (0 : Int32) r2.toInt64 (fun h8 => Q (0 : Int32) h8))))
theorem sg_X0_seal : ySg yX0_seal 7 = true := by decide +kernel
theorem c_X0_seal (G : gT) (l : Launch) (mc ms : Nat) (a0 : Nat) (i1 : Int32) (i2 : Int32) (i3 : Int32) (i4 : Int32) (i5 : Int32) (a6 : Nat) (h : Hp) (Q : Int32 → Hp → Prop) (hst : l.stackTraces = false) (hw : w_X0_seal mc ms a0 i1 i2 i3 i4 i5 a6 h Q) : Ct G l yX0_seal (wsW_ yX0_seal cX0_seal 8 (some .int) hh_X0_seal) 11 283 mc ms [.ref a0, .int i1, .int i2, .int i3, .int i4, .int i5, .ref a6] h (pI Q) := by
  refine CtW.of (own := RX0) (by decide +kernel) rfl (show (_ : Nat) ≤ _ from Nat.le_of_ble_eq_true rfl) (fun V C => ?_)
  show V h 0 0 0 [(0, .ref a0), (1, .int i1), (2, .int i2), (3, .int i3), (4, .int i4), (5, .int i5), (6, .ref a6)] []
  unfold w_X0_seal at hw
  refine r_aload C 6 rfl dX0_seal_0 (r_iconst (v := (0 : Int32)) C (by decide) dX0_seal_2 (r_aload_n C rfl 0 rfl dX0_seal_3 (r_iload_n C rfl 1 rfl dX0_seal_4 (r_iload_n C rfl 2 rfl dX0_seal_5 (r_iload_n C rfl 3 rfl dX0_seal_6 ?_)))))
  refine r_iload C 4 rfl dX0_seal_7 (r_iload C 5 rfl dX0_seal_9 ?_)
  obtain ⟨hq1, hw⟩ := hw
  obtain ⟨k4, k5, hp6, hp7, hw⟩ := hw
  refine r_callVH (ci := 0) (rest := [.int (0 : Int32), .ref a6]) (As := [.int i1, .int i2, .int i3, .int i4, .int i5]) C (by decide) sg_X1_seal rfl rfl q1815 q1816 q1817 q77 q1818 rfl (Nat.le_of_ble_eq_true rfl) dX0_seal_11 rfl hq1 hp6 hp7 (c_X1_seal G l k4 k5 a0 i1 i2 i3 i4 i5 h _ _ hst hw) (fun E9 h9 hX9 => ?_) (k_I (fun r2 h3 hw => ?_))
  · rcases hX9 with ⟨rfl, hw⟩ | ⟨rfl, hw⟩ | ⟨rfl, hw⟩
    · refine ⟨(tableOf hh_X0_seal).take 0, _, (tableOf hh_X0_seal).drop 1, "java/lang/IndexOutOfBoundsException", rfl, ?_, by decide, by decide, q1579, (List.mem_of_getElem? (i := 9) rfl), fun q9 => ?_⟩
      · intro z hz
        cases hz
      · show V h9 _ _ 19 _ _
        refine r_astore (L' := [(7, .ref q9), (0, .ref a0), (1, .int i1), (2, .int i2), (3, .int i3), (4, .int i4), (5, .int i5), (6, .ref a6)]) C (by decide) rfl dX0_seal_19 (r_iconst (v := (1 : Int32)) C (by decide) dX0_seal_21 ?_)
        exact r_ireturn C dX0_seal_22 hp6 hp7 ⟨_, rfl, hw⟩
    · refine ⟨(tableOf hh_X0_seal).take 1, _, (tableOf hh_X0_seal).drop 2, "java/lang/IllegalArgumentException", rfl, ?_, by decide, by decide, q1325, (List.mem_of_getElem? (i := 11) rfl), fun q9 => ?_⟩
      · intro z hz
        cases hz with
        | head => exact Or.inr ⟨by decide, "java/lang/IndexOutOfBoundsException", q1579, List.mem_of_getElem? (i := 1) rfl⟩
        | tail _ hz => cases hz
      · show V h9 _ _ 23 _ _
        refine r_astore (L' := [(7, .ref q9), (0, .ref a0), (1, .int i1), (2, .int i2), (3, .int i3), (4, .int i4), (5, .int i5), (6, .ref a6)]) C (by decide) rfl dX0_seal_23 (r_iconst (v := (2 : Int32)) C (by decide) dX0_seal_25 ?_)
        exact r_ireturn C dX0_seal_26 hp6 hp7 ⟨_, rfl, hw⟩
    · refine ⟨(tableOf hh_X0_seal).take 2, _, (tableOf hh_X0_seal).drop 3, "java/lang/IllegalStateException", rfl, ?_, by decide, by decide, q1326, (List.mem_of_getElem? (i := 47) rfl), fun q9 => ?_⟩
      · intro z hz
        cases hz with
        | head => exact Or.inr ⟨by decide, "java/lang/IndexOutOfBoundsException", q1579, List.mem_of_getElem? (i := 3) rfl⟩
        | tail _ hz =>
          cases hz with
          | head => exact Or.inr ⟨by decide, "java/lang/IllegalArgumentException", q1325, List.mem_of_getElem? (i := 2) rfl⟩
          | tail _ hz => cases hz
      · show V h9 _ _ 27 _ _
        refine r_astore (L' := [(7, .ref q9), (0, .ref a0), (1, .int i1), (2, .int i2), (3, .int i3), (4, .int i4), (5, .int i5), (6, .ref a6)]) C (by decide) rfl dX0_seal_27 (r_iconst (v := (3 : Int32)) C (by decide) dX0_seal_29 ?_)
        exact r_ireturn C dX0_seal_30 hp6 hp7 ⟨_, rfl, hw⟩
  refine r_i2l C dX0_seal_14 ?_
  refine r_lastore C dX0_seal_15 hw (fun h8 hw => ?_)
  refine r_goto (tgt := 31) C (by decide) dX0_seal_16 (r_iconst (v := (0 : Int32)) C (by decide) dX0_seal_31 ?_)
  exact r_ireturn C dX0_seal_32 hp6 hp7 ⟨_, rfl, hw⟩
abbrev hh_X0_show : List (Nat × Nat × Nat × Nat) := [(0, 10, 13, 28), (0, 10, 17, 13)]
def w_X0_show (mc ms : Nat) (a0 : Nat) (i1 : Int32) (i2 : Int32) (a3 : Nat) (h : Hp) (Q : Int32 → Hp → Prop) : Prop :=
  hasC h a0 0 ∧ (∃ k4 k5 : Nat, 0 + k4 ≤ mc ∧ 0 + k5 ≤ ms ∧ (w_X1_show k4 k5 a0 i1 i2 h (fun E9 h9 => (E9 = "java/lang/IndexOutOfBoundsException" ∧ (Q (1 : Int32) h9)) ∨ (E9 = "java/lang/IllegalArgumentException" ∧ (Q (2 : Int32) h9))) (fun r2 h3 => wrL h3 a3 (0 : Int32) r2.toInt64 (fun h8 => Q (0 : Int32) h8))))
theorem sg_X0_show : ySg yX0_show 4 = true := by decide +kernel
theorem c_X0_show (G : gT) (l : Launch) (mc ms : Nat) (a0 : Nat) (i1 : Int32) (i2 : Int32) (a3 : Nat) (h : Hp) (Q : Int32 → Hp → Prop) (hst : l.stackTraces = false) (hw : w_X0_show mc ms a0 i1 i2 a3 h Q) : Ct G l yX0_show (wsW_ yX0_show cX0_show 5 (some .int) hh_X0_show) 11 280 mc ms [.ref a0, .int i1, .int i2, .ref a3] h (pI Q) := by
  refine CtW.of (own := RX0) (by decide +kernel) rfl (show (_ : Nat) ≤ _ from Nat.le_of_ble_eq_true rfl) (fun V C => ?_)
  show V h 0 0 0 [(0, .ref a0), (1, .int i1), (2, .int i2), (3, .ref a3)] []
  unfold w_X0_show at hw
  refine r_aload_n C rfl 3 rfl dX0_show_0 (r_iconst (v := (0 : Int32)) C (by decide) dX0_show_1 (r_aload_n C rfl 0 rfl dX0_show_2 (r_iload_n C rfl 1 rfl dX0_show_3 (r_iload_n C rfl 2 rfl dX0_show_4 ?_))))
  obtain ⟨hq1, hw⟩ := hw
  obtain ⟨k4, k5, hp6, hp7, hw⟩ := hw
  refine r_callVH (ci := 0) (rest := [.int (0 : Int32), .ref a3]) (As := [.int i1, .int i2]) C (by decide) sg_X1_show rfl rfl q1828 q1829 q1830 q77 q1831 rfl (Nat.le_of_ble_eq_true rfl) dX0_show_5 rfl hq1 hp6 hp7 (c_X1_show G l k4 k5 a0 i1 i2 h _ _ hst hw) (fun E9 h9 hX9 => ?_) (k_I (fun r2 h3 hw => ?_))
  · rcases hX9 with ⟨rfl, hw⟩ | ⟨rfl, hw⟩
    · refine ⟨(tableOf hh_X0_show).take 0, _, (tableOf hh_X0_show).drop 1, "java/lang/IndexOutOfBoundsException", rfl, ?_, by decide, by decide, q1579, (List.mem_of_getElem? (i := 9) rfl), fun q9 => ?_⟩
      · intro z hz
        cases hz
      · show V h9 _ _ 13 _ _
        refine r_astore (L' := [(4, .ref q9), (0, .ref a0), (1, .int i1), (2, .int i2), (3, .ref a3)]) C (by decide) rfl dX0_show_13 (r_iconst (v := (1 : Int32)) C (by decide) dX0_show_15 ?_)
        exact r_ireturn C dX0_show_16 hp6 hp7 ⟨_, rfl, hw⟩
    · refine ⟨(tableOf hh_X0_show).take 1, _, (tableOf hh_X0_show).drop 2, "java/lang/IllegalArgumentException", rfl, ?_, by decide, by decide, q1325, (List.mem_of_getElem? (i := 11) rfl), fun q9 => ?_⟩
      · intro z hz
        cases hz with
        | head => exact Or.inr ⟨by decide, "java/lang/IndexOutOfBoundsException", q1579, List.mem_of_getElem? (i := 1) rfl⟩
        | tail _ hz => cases hz
      · show V h9 _ _ 17 _ _
        refine r_astore (L' := [(4, .ref q9), (0, .ref a0), (1, .int i1), (2, .int i2), (3, .ref a3)]) C (by decide) rfl dX0_show_17 (r_iconst (v := (2 : Int32)) C (by decide) dX0_show_19 ?_)
        exact r_ireturn C dX0_show_20 hp6 hp7 ⟨_, rfl, hw⟩
  refine r_i2l C dX0_show_8 ?_
  refine r_lastore C dX0_show_9 hw (fun h8 hw => ?_)
  refine r_goto (tgt := 21) C (by decide) dX0_show_10 (r_iconst (v := (0 : Int32)) C (by decide) dX0_show_21 ?_)
  exact r_ireturn C dX0_show_22 hp6 hp7 ⟨_, rfl, hw⟩
abbrev hh_X0_hang : List (Nat × Nat × Nat × Nat) := [(0, 10, 13, 28)]
def w_X0_hang (mc ms : Nat) (a0 : Nat) (i1 : Int32) (i2 : Int32) (a3 : Nat) (h : Hp) (Q : Int32 → Hp → Prop) : Prop :=
  hasC h a0 0 ∧ (∃ k4 k5 : Nat, 0 + k4 ≤ mc ∧ 0 + k5 ≤ ms ∧ (w_X1_hang k4 k5 a0 i1 i2 h (fun E9 h9 => (E9 = "java/lang/IndexOutOfBoundsException" ∧ (Q (1 : Int32) h9))) (fun r2 h3 => wrL h3 a3 (0 : Int32) r2.toInt64 (fun h8 => Q (0 : Int32) h8))))
theorem sg_X0_hang : ySg yX0_hang 4 = true := by decide +kernel
theorem c_X0_hang (G : gT) (l : Launch) (mc ms : Nat) (a0 : Nat) (i1 : Int32) (i2 : Int32) (a3 : Nat) (h : Hp) (Q : Int32 → Hp → Prop) (hst : l.stackTraces = false) (hw : w_X0_hang mc ms a0 i1 i2 a3 h Q) : Ct G l yX0_hang (wsW_ yX0_hang cX0_hang 5 (some .int) hh_X0_hang) 11 280 mc ms [.ref a0, .int i1, .int i2, .ref a3] h (pI Q) := by
  refine CtW.of (own := RX0) (by decide +kernel) rfl (show (_ : Nat) ≤ _ from Nat.le_of_ble_eq_true rfl) (fun V C => ?_)
  show V h 0 0 0 [(0, .ref a0), (1, .int i1), (2, .int i2), (3, .ref a3)] []
  unfold w_X0_hang at hw
  refine r_aload_n C rfl 3 rfl dX0_hang_0 (r_iconst (v := (0 : Int32)) C (by decide) dX0_hang_1 (r_aload_n C rfl 0 rfl dX0_hang_2 (r_iload_n C rfl 1 rfl dX0_hang_3 (r_iload_n C rfl 2 rfl dX0_hang_4 ?_))))
  obtain ⟨hq1, hw⟩ := hw
  obtain ⟨k4, k5, hp6, hp7, hw⟩ := hw
  refine r_callVH (ci := 0) (rest := [.int (0 : Int32), .ref a3]) (As := [.int i1, .int i2]) C (by decide) sg_X1_hang rfl rfl q1845 q1846 q1847 q77 q1848 rfl (Nat.le_of_ble_eq_true rfl) dX0_hang_5 rfl hq1 hp6 hp7 (c_X1_hang G l k4 k5 a0 i1 i2 h _ _ hst hw) (fun E9 h9 hX9 => ?_) (k_I (fun r2 h3 hw => ?_))
  · rcases hX9 with ⟨rfl, hw⟩
    refine ⟨(tableOf hh_X0_hang).take 0, _, (tableOf hh_X0_hang).drop 1, "java/lang/IndexOutOfBoundsException", rfl, ?_, by decide, by decide, q1579, (List.mem_of_getElem? (i := 9) rfl), fun q9 => ?_⟩
    · intro z hz
      cases hz
    · show V h9 _ _ 13 _ _
      refine r_astore (L' := [(4, .ref q9), (0, .ref a0), (1, .int i1), (2, .int i2), (3, .ref a3)]) C (by decide) rfl dX0_hang_13 (r_iconst (v := (1 : Int32)) C (by decide) dX0_hang_15 ?_)
      exact r_ireturn C dX0_hang_16 hp6 hp7 ⟨_, rfl, hw⟩
  refine r_i2l C dX0_hang_8 ?_
  refine r_lastore C dX0_hang_9 hw (fun h8 hw => ?_)
  refine r_goto (tgt := 17) C (by decide) dX0_hang_10 (r_iconst (v := (0 : Int32)) C (by decide) dX0_hang_17 ?_)
  exact r_ireturn C dX0_hang_18 hp6 hp7 ⟨_, rfl, hw⟩
abbrev hh_X0_cut : List (Nat × Nat × Nat × Nat) := [(0, 9, 12, 28), (0, 9, 15, 15)]
def w_X0_cut (mc ms : Nat) (a0 : Nat) (i1 : Int32) (a2 : Nat) (h : Hp) (Q : Int32 → Hp → Prop) : Prop :=
  hasC h a0 0 ∧ (∃ k4 k5 : Nat, 0 + k4 ≤ mc ∧ 0 + k5 ≤ ms ∧ (w_X1_cut k4 k5 a0 i1 h (fun E9 h9 => (E9 = "java/lang/IndexOutOfBoundsException" ∧ (Q (1 : Int32) h9)) ∨ (E9 = "java/lang/IllegalStateException" ∧ (Q (2 : Int32) h9))) (fun r2 h3 => wrL h3 a2 (0 : Int32) r2.toInt64 (fun h8 => Q (0 : Int32) h8))))
theorem sg_X0_cut : ySg yX0_cut 3 = true := by decide +kernel
theorem c_X0_cut (G : gT) (l : Launch) (mc ms : Nat) (a0 : Nat) (i1 : Int32) (a2 : Nat) (h : Hp) (Q : Int32 → Hp → Prop) (hst : l.stackTraces = false) (hw : w_X0_cut mc ms a0 i1 a2 h Q) : Ct G l yX0_cut (wsW_ yX0_cut cX0_cut 4 (some .int) hh_X0_cut) 11 279 mc ms [.ref a0, .int i1, .ref a2] h (pI Q) := by
  refine CtW.of (own := RX0) (by decide +kernel) rfl (show (_ : Nat) ≤ _ from Nat.le_of_ble_eq_true rfl) (fun V C => ?_)
  show V h 0 0 0 [(0, .ref a0), (1, .int i1), (2, .ref a2)] []
  unfold w_X0_cut at hw
  refine r_aload_n C rfl 2 rfl dX0_cut_0 (r_iconst (v := (0 : Int32)) C (by decide) dX0_cut_1 (r_aload_n C rfl 0 rfl dX0_cut_2 (r_iload_n C rfl 1 rfl dX0_cut_3 ?_)))
  obtain ⟨hq1, hw⟩ := hw
  obtain ⟨k4, k5, hp6, hp7, hw⟩ := hw
  refine r_callVH (ci := 0) (rest := [.int (0 : Int32), .ref a2]) (As := [.int i1]) C (by decide) sg_X1_cut rfl rfl q1852 q1853 q1854 q77 q1855 rfl (Nat.le_of_ble_eq_true rfl) dX0_cut_4 rfl hq1 hp6 hp7 (c_X1_cut G l k4 k5 a0 i1 h _ _ hst hw) (fun E9 h9 hX9 => ?_) (k_I (fun r2 h3 hw => ?_))
  · rcases hX9 with ⟨rfl, hw⟩ | ⟨rfl, hw⟩
    · refine ⟨(tableOf hh_X0_cut).take 0, _, (tableOf hh_X0_cut).drop 1, "java/lang/IndexOutOfBoundsException", rfl, ?_, by decide, by decide, q1579, (List.mem_of_getElem? (i := 9) rfl), fun q9 => ?_⟩
      · intro z hz
        cases hz
      · show V h9 _ _ 12 _ _
        refine r_astore_n (L' := [(3, .ref q9), (0, .ref a0), (1, .int i1), (2, .ref a2)]) C rfl (by decide) rfl dX0_cut_12 (r_iconst (v := (1 : Int32)) C (by decide) dX0_cut_13 ?_)
        exact r_ireturn C dX0_cut_14 hp6 hp7 ⟨_, rfl, hw⟩
    · refine ⟨(tableOf hh_X0_cut).take 1, _, (tableOf hh_X0_cut).drop 2, "java/lang/IllegalStateException", rfl, ?_, by decide, by decide, q1326, (List.mem_of_getElem? (i := 47) rfl), fun q9 => ?_⟩
      · intro z hz
        cases hz with
        | head => exact Or.inr ⟨by decide, "java/lang/IndexOutOfBoundsException", q1579, List.mem_of_getElem? (i := 3) rfl⟩
        | tail _ hz => cases hz
      · show V h9 _ _ 15 _ _
        refine r_astore_n (L' := [(3, .ref q9), (0, .ref a0), (1, .int i1), (2, .ref a2)]) C rfl (by decide) rfl dX0_cut_15 (r_iconst (v := (2 : Int32)) C (by decide) dX0_cut_16 ?_)
        exact r_ireturn C dX0_cut_17 hp6 hp7 ⟨_, rfl, hw⟩
  refine r_i2l C dX0_cut_7 ?_
  refine r_lastore C dX0_cut_8 hw (fun h8 hw => ?_)
  refine r_goto (tgt := 18) C (by decide) dX0_cut_9 (r_iconst (v := (0 : Int32)) C (by decide) dX0_cut_18 ?_)
  exact r_ireturn C dX0_cut_19 hp6 hp7 ⟨_, rfl, hw⟩
abbrev hh_X0_shelve : List (Nat × Nat × Nat × Nat) := [(0, 12, 15, 28), (0, 12, 19, 13), (0, 12, 23, 15)]
def w_X0_shelve (mc ms : Nat) (a0 : Nat) (i1 : Int32) (i2 : Int32) (i3 : Int32) (a4 : Nat) (h : Hp) (Q : Int32 → Hp → Prop) : Prop :=
  hasC h a0 0 ∧ (∃ k4 k5 : Nat, 0 + k4 ≤ mc ∧ 0 + k5 ≤ ms ∧ (w_X1_shelve k4 k5 a0 i1 i2 i3 h (fun E9 h9 => (E9 = "java/lang/IndexOutOfBoundsException" ∧ (Q (1 : Int32) h9)) ∨ (E9 = "java/lang/IllegalArgumentException" ∧ (Q (2 : Int32) h9)) ∨ (E9 = "java/lang/IllegalStateException" ∧ (Q (3 : Int32) h9))) (fun r2 h3 => wrL h3 a4 (0 : Int32) r2.toInt64 (fun h8 => Q (0 : Int32) h8))))
theorem sg_X0_shelve : ySg yX0_shelve 5 = true := by decide +kernel
theorem c_X0_shelve (G : gT) (l : Launch) (mc ms : Nat) (a0 : Nat) (i1 : Int32) (i2 : Int32) (i3 : Int32) (a4 : Nat) (h : Hp) (Q : Int32 → Hp → Prop) (hst : l.stackTraces = false) (hw : w_X0_shelve mc ms a0 i1 i2 i3 a4 h Q) : Ct G l yX0_shelve (wsW_ yX0_shelve cX0_shelve 6 (some .int) hh_X0_shelve) 11 281 mc ms [.ref a0, .int i1, .int i2, .int i3, .ref a4] h (pI Q) := by
  refine CtW.of (own := RX0) (by decide +kernel) rfl (show (_ : Nat) ≤ _ from Nat.le_of_ble_eq_true rfl) (fun V C => ?_)
  show V h 0 0 0 [(0, .ref a0), (1, .int i1), (2, .int i2), (3, .int i3), (4, .ref a4)] []
  unfold w_X0_shelve at hw
  refine r_aload C 4 rfl dX0_shelve_0 (r_iconst (v := (0 : Int32)) C (by decide) dX0_shelve_2 (r_aload_n C rfl 0 rfl dX0_shelve_3 (r_iload_n C rfl 1 rfl dX0_shelve_4 (r_iload_n C rfl 2 rfl dX0_shelve_5 (r_iload_n C rfl 3 rfl dX0_shelve_6 ?_)))))
  obtain ⟨hq1, hw⟩ := hw
  obtain ⟨k4, k5, hp6, hp7, hw⟩ := hw
  refine r_callVH (ci := 0) (rest := [.int (0 : Int32), .ref a4]) (As := [.int i1, .int i2, .int i3]) C (by decide) sg_X1_shelve rfl rfl q1863 q1864 q1865 q77 q1866 rfl (Nat.le_of_ble_eq_true rfl) dX0_shelve_7 rfl hq1 hp6 hp7 (c_X1_shelve G l k4 k5 a0 i1 i2 i3 h _ _ hst hw) (fun E9 h9 hX9 => ?_) (k_I (fun r2 h3 hw => ?_))
  · rcases hX9 with ⟨rfl, hw⟩ | ⟨rfl, hw⟩ | ⟨rfl, hw⟩
    · refine ⟨(tableOf hh_X0_shelve).take 0, _, (tableOf hh_X0_shelve).drop 1, "java/lang/IndexOutOfBoundsException", rfl, ?_, by decide, by decide, q1579, (List.mem_of_getElem? (i := 9) rfl), fun q9 => ?_⟩
      · intro z hz
        cases hz
      · show V h9 _ _ 15 _ _
        refine r_astore (L' := [(5, .ref q9), (0, .ref a0), (1, .int i1), (2, .int i2), (3, .int i3), (4, .ref a4)]) C (by decide) rfl dX0_shelve_15 (r_iconst (v := (1 : Int32)) C (by decide) dX0_shelve_17 ?_)
        exact r_ireturn C dX0_shelve_18 hp6 hp7 ⟨_, rfl, hw⟩
    · refine ⟨(tableOf hh_X0_shelve).take 1, _, (tableOf hh_X0_shelve).drop 2, "java/lang/IllegalArgumentException", rfl, ?_, by decide, by decide, q1325, (List.mem_of_getElem? (i := 11) rfl), fun q9 => ?_⟩
      · intro z hz
        cases hz with
        | head => exact Or.inr ⟨by decide, "java/lang/IndexOutOfBoundsException", q1579, List.mem_of_getElem? (i := 1) rfl⟩
        | tail _ hz => cases hz
      · show V h9 _ _ 19 _ _
        refine r_astore (L' := [(5, .ref q9), (0, .ref a0), (1, .int i1), (2, .int i2), (3, .int i3), (4, .ref a4)]) C (by decide) rfl dX0_shelve_19 (r_iconst (v := (2 : Int32)) C (by decide) dX0_shelve_21 ?_)
        exact r_ireturn C dX0_shelve_22 hp6 hp7 ⟨_, rfl, hw⟩
    · refine ⟨(tableOf hh_X0_shelve).take 2, _, (tableOf hh_X0_shelve).drop 3, "java/lang/IllegalStateException", rfl, ?_, by decide, by decide, q1326, (List.mem_of_getElem? (i := 47) rfl), fun q9 => ?_⟩
      · intro z hz
        cases hz with
        | head => exact Or.inr ⟨by decide, "java/lang/IndexOutOfBoundsException", q1579, List.mem_of_getElem? (i := 3) rfl⟩
        | tail _ hz =>
          cases hz with
          | head => exact Or.inr ⟨by decide, "java/lang/IllegalArgumentException", q1325, List.mem_of_getElem? (i := 2) rfl⟩
          | tail _ hz => cases hz
      · show V h9 _ _ 23 _ _
        refine r_astore (L' := [(5, .ref q9), (0, .ref a0), (1, .int i1), (2, .int i2), (3, .int i3), (4, .ref a4)]) C (by decide) rfl dX0_shelve_23 (r_iconst (v := (3 : Int32)) C (by decide) dX0_shelve_25 ?_)
        exact r_ireturn C dX0_shelve_26 hp6 hp7 ⟨_, rfl, hw⟩
  refine r_i2l C dX0_shelve_10 ?_
  refine r_lastore C dX0_shelve_11 hw (fun h8 hw => ?_)
  refine r_goto (tgt := 27) C (by decide) dX0_shelve_12 (r_iconst (v := (0 : Int32)) C (by decide) dX0_shelve_27 ?_)
  exact r_ireturn C dX0_shelve_28 hp6 hp7 ⟨_, rfl, hw⟩
abbrev hh_X0_take : List (Nat × Nat × Nat × Nat) := [(0, 9, 12, 28), (0, 9, 15, 15)]
def w_X0_take (mc ms : Nat) (a0 : Nat) (i1 : Int32) (a2 : Nat) (h : Hp) (Q : Int32 → Hp → Prop) : Prop :=
  hasC h a0 0 ∧ (∃ k4 k5 : Nat, 0 + k4 ≤ mc ∧ 0 + k5 ≤ ms ∧ (w_X1_take k4 k5 a0 i1 h (fun E9 h9 => (E9 = "java/lang/IndexOutOfBoundsException" ∧ (Q (1 : Int32) h9)) ∨ (E9 = "java/lang/IllegalStateException" ∧ (Q (2 : Int32) h9))) (fun r2 h3 => wrL h3 a2 (0 : Int32) r2.toInt64 (fun h8 => Q (0 : Int32) h8))))
theorem sg_X0_take : ySg yX0_take 3 = true := by decide +kernel
theorem c_X0_take (G : gT) (l : Launch) (mc ms : Nat) (a0 : Nat) (i1 : Int32) (a2 : Nat) (h : Hp) (Q : Int32 → Hp → Prop) (hst : l.stackTraces = false) (hw : w_X0_take mc ms a0 i1 a2 h Q) : Ct G l yX0_take (wsW_ yX0_take cX0_take 4 (some .int) hh_X0_take) 11 279 mc ms [.ref a0, .int i1, .ref a2] h (pI Q) := by
  refine CtW.of (own := RX0) (by decide +kernel) rfl (show (_ : Nat) ≤ _ from Nat.le_of_ble_eq_true rfl) (fun V C => ?_)
  show V h 0 0 0 [(0, .ref a0), (1, .int i1), (2, .ref a2)] []
  unfold w_X0_take at hw
  refine r_aload_n C rfl 2 rfl dX0_take_0 (r_iconst (v := (0 : Int32)) C (by decide) dX0_take_1 (r_aload_n C rfl 0 rfl dX0_take_2 (r_iload_n C rfl 1 rfl dX0_take_3 ?_)))
  obtain ⟨hq1, hw⟩ := hw
  obtain ⟨k4, k5, hp6, hp7, hw⟩ := hw
  refine r_callVH (ci := 0) (rest := [.int (0 : Int32), .ref a2]) (As := [.int i1]) C (by decide) sg_X1_take rfl rfl q1998 q1999 q2000 q77 q2001 rfl (Nat.le_of_ble_eq_true rfl) dX0_take_4 rfl hq1 hp6 hp7 (c_X1_take G l k4 k5 a0 i1 h _ _ hst hw) (fun E9 h9 hX9 => ?_) (k_I (fun r2 h3 hw => ?_))
  · rcases hX9 with ⟨rfl, hw⟩ | ⟨rfl, hw⟩
    · refine ⟨(tableOf hh_X0_take).take 0, _, (tableOf hh_X0_take).drop 1, "java/lang/IndexOutOfBoundsException", rfl, ?_, by decide, by decide, q1579, (List.mem_of_getElem? (i := 9) rfl), fun q9 => ?_⟩
      · intro z hz
        cases hz
      · show V h9 _ _ 12 _ _
        refine r_astore_n (L' := [(3, .ref q9), (0, .ref a0), (1, .int i1), (2, .ref a2)]) C rfl (by decide) rfl dX0_take_12 (r_iconst (v := (1 : Int32)) C (by decide) dX0_take_13 ?_)
        exact r_ireturn C dX0_take_14 hp6 hp7 ⟨_, rfl, hw⟩
    · refine ⟨(tableOf hh_X0_take).take 1, _, (tableOf hh_X0_take).drop 2, "java/lang/IllegalStateException", rfl, ?_, by decide, by decide, q1326, (List.mem_of_getElem? (i := 47) rfl), fun q9 => ?_⟩
      · intro z hz
        cases hz with
        | head => exact Or.inr ⟨by decide, "java/lang/IndexOutOfBoundsException", q1579, List.mem_of_getElem? (i := 3) rfl⟩
        | tail _ hz => cases hz
      · show V h9 _ _ 15 _ _
        refine r_astore_n (L' := [(3, .ref q9), (0, .ref a0), (1, .int i1), (2, .ref a2)]) C rfl (by decide) rfl dX0_take_15 (r_iconst (v := (2 : Int32)) C (by decide) dX0_take_16 ?_)
        exact r_ireturn C dX0_take_17 hp6 hp7 ⟨_, rfl, hw⟩
  refine r_i2l C dX0_take_7 ?_
  refine r_lastore C dX0_take_8 hw (fun h8 hw => ?_)
  refine r_goto (tgt := 18) C (by decide) dX0_take_9 (r_iconst (v := (0 : Int32)) C (by decide) dX0_take_18 ?_)
  exact r_ireturn C dX0_take_19 hp6 hp7 ⟨_, rfl, hw⟩
abbrev hh_X0_sort : List (Nat × Nat × Nat × Nat) := [(0, 9, 12, 28)]
def w_X0_sort (mc ms : Nat) (a0 : Nat) (i1 : Int32) (a2 : Nat) (h : Hp) (Q : Int32 → Hp → Prop) : Prop :=
  hasC h a0 0 ∧ (∃ k4 k5 : Nat, 0 + k4 ≤ mc ∧ 0 + k5 ≤ ms ∧ (w_X1_sort k4 k5 a0 i1 h (fun E9 h9 => (E9 = "java/lang/IndexOutOfBoundsException" ∧ (Q (1 : Int32) h9))) (fun r2 h3 => wrL h3 a2 (0 : Int32) r2.toInt64 (fun h8 => Q (0 : Int32) h8))))
theorem sg_X0_sort : ySg yX0_sort 3 = true := by decide +kernel
theorem c_X0_sort (G : gT) (l : Launch) (mc ms : Nat) (a0 : Nat) (i1 : Int32) (a2 : Nat) (h : Hp) (Q : Int32 → Hp → Prop) (hst : l.stackTraces = false) (hw : w_X0_sort mc ms a0 i1 a2 h Q) : Ct G l yX0_sort (wsW_ yX0_sort cX0_sort 4 (some .int) hh_X0_sort) 14 311 mc ms [.ref a0, .int i1, .ref a2] h (pI Q) := by
  refine CtW.of (own := RX0) (by decide +kernel) rfl (show (_ : Nat) ≤ _ from Nat.le_of_ble_eq_true rfl) (fun V C => ?_)
  show V h 0 0 0 [(0, .ref a0), (1, .int i1), (2, .ref a2)] []
  unfold w_X0_sort at hw
  refine r_aload_n C rfl 2 rfl dX0_sort_0 (r_iconst (v := (0 : Int32)) C (by decide) dX0_sort_1 (r_aload_n C rfl 0 rfl dX0_sort_2 (r_iload_n C rfl 1 rfl dX0_sort_3 ?_)))
  obtain ⟨hq1, hw⟩ := hw
  obtain ⟨k4, k5, hp6, hp7, hw⟩ := hw
  refine r_callVH (ci := 0) (rest := [.int (0 : Int32), .ref a2]) (As := [.int i1]) C (by decide) sg_X1_sort rfl rfl q2006 q2007 q2008 q77 q2009 rfl (Nat.le_of_ble_eq_true rfl) dX0_sort_4 rfl hq1 hp6 hp7 (c_X1_sort G l k4 k5 a0 i1 h _ _ hst hw) (fun E9 h9 hX9 => ?_) (k_I (fun r2 h3 hw => ?_))
  · rcases hX9 with ⟨rfl, hw⟩
    refine ⟨(tableOf hh_X0_sort).take 0, _, (tableOf hh_X0_sort).drop 1, "java/lang/IndexOutOfBoundsException", rfl, ?_, by decide, by decide, q1579, (List.mem_of_getElem? (i := 9) rfl), fun q9 => ?_⟩
    · intro z hz
      cases hz
    · show V h9 _ _ 12 _ _
      refine r_astore_n (L' := [(3, .ref q9), (0, .ref a0), (1, .int i1), (2, .ref a2)]) C rfl (by decide) rfl dX0_sort_12 (r_iconst (v := (1 : Int32)) C (by decide) dX0_sort_13 ?_)
      exact r_ireturn C dX0_sort_14 hp6 hp7 ⟨_, rfl, hw⟩
  refine r_i2l C dX0_sort_7 ?_
  refine r_lastore C dX0_sort_8 hw (fun h8 hw => ?_)
  refine r_goto (tgt := 15) C (by decide) dX0_sort_9 (r_iconst (v := (0 : Int32)) C (by decide) dX0_sort_15 ?_)
  exact r_ireturn C dX0_sort_16 hp6 hp7 ⟨_, rfl, hw⟩
abbrev hh_X0_set : List (Nat × Nat × Nat × Nat) := [(0, 10, 13, 13)]
def w_X0_set (mc ms : Nat) (a0 : Nat) (i1 : Int32) (i2 : Int32) (a3 : Nat) (h : Hp) (Q : Int32 → Hp → Prop) : Prop :=
  hasC h a0 0 ∧ (∃ k4 k5 : Nat, 0 + k4 ≤ mc ∧ 0 + k5 ≤ ms ∧ (w_X1_set k4 k5 a0 i1 i2 h (fun E9 h9 => (E9 = "java/lang/IllegalArgumentException" ∧ (Q (1 : Int32) h9))) (fun r2 h3 => wrL h3 a3 (0 : Int32) r2.toInt64 (fun h8 => Q (0 : Int32) h8))))
theorem sg_X0_set : ySg yX0_set 4 = true := by decide +kernel
theorem c_X0_set (G : gT) (l : Launch) (mc ms : Nat) (a0 : Nat) (i1 : Int32) (i2 : Int32) (a3 : Nat) (h : Hp) (Q : Int32 → Hp → Prop) (hst : l.stackTraces = false) (hw : w_X0_set mc ms a0 i1 i2 a3 h Q) : Ct G l yX0_set (wsW_ yX0_set cX0_set 5 (some .int) hh_X0_set) 11 281 mc ms [.ref a0, .int i1, .int i2, .ref a3] h (pI Q) := by
  refine CtW.of (own := RX0) (by decide +kernel) rfl (show (_ : Nat) ≤ _ from Nat.le_of_ble_eq_true rfl) (fun V C => ?_)
  show V h 0 0 0 [(0, .ref a0), (1, .int i1), (2, .int i2), (3, .ref a3)] []
  unfold w_X0_set at hw
  refine r_aload_n C rfl 3 rfl dX0_set_0 (r_iconst (v := (0 : Int32)) C (by decide) dX0_set_1 (r_aload_n C rfl 0 rfl dX0_set_2 (r_iload_n C rfl 1 rfl dX0_set_3 (r_iload_n C rfl 2 rfl dX0_set_4 ?_))))
  obtain ⟨hq1, hw⟩ := hw
  obtain ⟨k4, k5, hp6, hp7, hw⟩ := hw
  refine r_callVH (ci := 0) (rest := [.int (0 : Int32), .ref a3]) (As := [.int i1, .int i2]) C (by decide) sg_X1_set rfl rfl q2032 q2033 q2034 q77 q2035 rfl (Nat.le_of_ble_eq_true rfl) dX0_set_5 rfl hq1 hp6 hp7 (c_X1_set G l k4 k5 a0 i1 i2 h _ _ hst hw) (fun E9 h9 hX9 => ?_) (k_I (fun r2 h3 hw => ?_))
  · rcases hX9 with ⟨rfl, hw⟩
    refine ⟨(tableOf hh_X0_set).take 0, _, (tableOf hh_X0_set).drop 1, "java/lang/IllegalArgumentException", rfl, ?_, by decide, by decide, q1325, (List.mem_of_getElem? (i := 11) rfl), fun q9 => ?_⟩
    · intro z hz
      cases hz
    · show V h9 _ _ 13 _ _
      refine r_astore (L' := [(4, .ref q9), (0, .ref a0), (1, .int i1), (2, .int i2), (3, .ref a3)]) C (by decide) rfl dX0_set_13 (r_iconst (v := (1 : Int32)) C (by decide) dX0_set_15 ?_)
      exact r_ireturn C dX0_set_16 hp6 hp7 ⟨_, rfl, hw⟩
  refine r_i2l C dX0_set_8 ?_
  refine r_lastore C dX0_set_9 hw (fun h8 hw => ?_)
  refine r_goto (tgt := 17) C (by decide) dX0_set_10 (r_iconst (v := (0 : Int32)) C (by decide) dX0_set_17 ?_)
  exact r_ireturn C dX0_set_18 hp6 hp7 ⟨_, rfl, hw⟩
abbrev hh_X0_undo : List (Nat × Nat × Nat × Nat) := [(0, 8, 11, 15)]
def w_X0_undo (mc ms : Nat) (a0 : Nat) (a1 : Nat) (h : Hp) (Q : Int32 → Hp → Prop) : Prop :=
  hasC h a0 0 ∧ (∃ k4 k5 : Nat, 0 + k4 ≤ mc ∧ 0 + k5 ≤ ms ∧ (w_X1_undo k4 k5 a0 h (fun E9 h9 => (E9 = "java/lang/IllegalStateException" ∧ (Q (1 : Int32) h9))) (fun r2 h3 => wrL h3 a1 (0 : Int32) r2.toInt64 (fun h8 => Q (0 : Int32) h8))))
theorem sg_X0_undo : ySg yX0_undo 2 = true := by decide +kernel
theorem c_X0_undo (G : gT) (l : Launch) (mc ms : Nat) (a0 : Nat) (a1 : Nat) (h : Hp) (Q : Int32 → Hp → Prop) (hst : l.stackTraces = false) (hw : w_X0_undo mc ms a0 a1 h Q) : Ct G l yX0_undo (wsW_ yX0_undo cX0_undo 3 (some .int) hh_X0_undo) 8 130 mc ms [.ref a0, .ref a1] h (pI Q) := by
  refine CtW.of (own := RX0) (by decide +kernel) rfl (show (_ : Nat) ≤ _ from Nat.le_of_ble_eq_true rfl) (fun V C => ?_)
  show V h 0 0 0 [(0, .ref a0), (1, .ref a1)] []
  unfold w_X0_undo at hw
  refine r_aload_n C rfl 1 rfl dX0_undo_0 (r_iconst (v := (0 : Int32)) C (by decide) dX0_undo_1 (r_aload_n C rfl 0 rfl dX0_undo_2 ?_))
  obtain ⟨hq1, hw⟩ := hw
  obtain ⟨k4, k5, hp6, hp7, hw⟩ := hw
  refine r_callVH (ci := 0) (rest := [.int (0 : Int32), .ref a1]) (As := []) C (by decide) sg_X1_undo rfl rfl q2042 q2043 q2044 q77 q2045 rfl (Nat.le_of_ble_eq_true rfl) dX0_undo_3 rfl hq1 hp6 hp7 (c_X1_undo G l k4 k5 a0 h _ _ hst hw) (fun E9 h9 hX9 => ?_) (k_I (fun r2 h3 hw => ?_))
  · rcases hX9 with ⟨rfl, hw⟩
    refine ⟨(tableOf hh_X0_undo).take 0, _, (tableOf hh_X0_undo).drop 1, "java/lang/IllegalStateException", rfl, ?_, by decide, by decide, q1326, (List.mem_of_getElem? (i := 47) rfl), fun q9 => ?_⟩
    · intro z hz
      cases hz
    · show V h9 _ _ 11 _ _
      refine r_astore_n (L' := [(2, .ref q9), (0, .ref a0), (1, .ref a1)]) C rfl (by decide) rfl dX0_undo_11 (r_iconst (v := (1 : Int32)) C (by decide) dX0_undo_12 ?_)
      exact r_ireturn C dX0_undo_13 hp6 hp7 ⟨_, rfl, hw⟩
  refine r_i2l C dX0_undo_6 ?_
  refine r_lastore C dX0_undo_7 hw (fun h8 hw => ?_)
  refine r_goto (tgt := 14) C (by decide) dX0_undo_8 (r_iconst (v := (0 : Int32)) C (by decide) dX0_undo_14 ?_)
  exact r_ireturn C dX0_undo_15 hp6 hp7 ⟨_, rfl, hw⟩
abbrev hh_X0_older : List (Nat × Nat × Nat × Nat) := [(0, 10, 13, 28)]
def w_X0_older (mc ms : Nat) (a0 : Nat) (i1 : Int32) (i2 : Int32) (a3 : Nat) (h : Hp) (Q : Int32 → Hp → Prop) : Prop :=
  hasC h a0 0 ∧ (∃ k4 k5 : Nat, 0 + k4 ≤ mc ∧ 0 + k5 ≤ ms ∧ (w_X1_older k4 k5 a0 i1 i2 h (fun E9 h9 => (E9 = "java/lang/IndexOutOfBoundsException" ∧ (Q (1 : Int32) h9))) (fun r2 h3 => wrL h3 a3 (0 : Int32) r2.toInt64 (fun h8 => Q (0 : Int32) h8))))
theorem sg_X0_older : ySg yX0_older 4 = true := by decide +kernel
theorem c_X0_older (G : gT) (l : Launch) (mc ms : Nat) (a0 : Nat) (i1 : Int32) (i2 : Int32) (a3 : Nat) (h : Hp) (Q : Int32 → Hp → Prop) (hst : l.stackTraces = false) (hw : w_X0_older mc ms a0 i1 i2 a3 h Q) : Ct G l yX0_older (wsW_ yX0_older cX0_older 5 (some .int) hh_X0_older) 10 215 mc ms [.ref a0, .int i1, .int i2, .ref a3] h (pI Q) := by
  refine CtW.of (own := RX0) (by decide +kernel) rfl (show (_ : Nat) ≤ _ from Nat.le_of_ble_eq_true rfl) (fun V C => ?_)
  show V h 0 0 0 [(0, .ref a0), (1, .int i1), (2, .int i2), (3, .ref a3)] []
  unfold w_X0_older at hw
  refine r_aload_n C rfl 3 rfl dX0_older_0 (r_iconst (v := (0 : Int32)) C (by decide) dX0_older_1 (r_aload_n C rfl 0 rfl dX0_older_2 (r_iload_n C rfl 1 rfl dX0_older_3 (r_iload_n C rfl 2 rfl dX0_older_4 ?_))))
  obtain ⟨hq1, hw⟩ := hw
  obtain ⟨k4, k5, hp6, hp7, hw⟩ := hw
  refine r_callVH (ci := 0) (rest := [.int (0 : Int32), .ref a3]) (As := [.int i1, .int i2]) C (by decide) sg_X1_older rfl rfl q2060 q2061 q2062 q77 q2063 rfl (Nat.le_of_ble_eq_true rfl) dX0_older_5 rfl hq1 hp6 hp7 (c_X1_older G l k4 k5 a0 i1 i2 h _ _ hst hw) (fun E9 h9 hX9 => ?_) (k_I (fun r2 h3 hw => ?_))
  · rcases hX9 with ⟨rfl, hw⟩
    refine ⟨(tableOf hh_X0_older).take 0, _, (tableOf hh_X0_older).drop 1, "java/lang/IndexOutOfBoundsException", rfl, ?_, by decide, by decide, q1579, (List.mem_of_getElem? (i := 9) rfl), fun q9 => ?_⟩
    · intro z hz
      cases hz
    · show V h9 _ _ 13 _ _
      refine r_astore (L' := [(4, .ref q9), (0, .ref a0), (1, .int i1), (2, .int i2), (3, .ref a3)]) C (by decide) rfl dX0_older_13 (r_iconst (v := (1 : Int32)) C (by decide) dX0_older_15 ?_)
      exact r_ireturn C dX0_older_16 hp6 hp7 ⟨_, rfl, hw⟩
  refine r_i2l C dX0_older_8 ?_
  refine r_lastore C dX0_older_9 hw (fun h8 hw => ?_)
  refine r_goto (tgt := 17) C (by decide) dX0_older_10 (r_iconst (v := (0 : Int32)) C (by decide) dX0_older_17 ?_)
  exact r_ireturn C dX0_older_18 hp6 hp7 ⟨_, rfl, hw⟩
abbrev hh_X0_decides : List (Nat × Nat × Nat × Nat) := [(0, 9, 12, 28)]
def w_X0_decides (mc ms : Nat) (a0 : Nat) (i1 : Int32) (a2 : Nat) (h : Hp) (Q : Int32 → Hp → Prop) : Prop :=
  hasC h a0 0 ∧ (∃ k4 k5 : Nat, 0 + k4 ≤ mc ∧ 0 + k5 ≤ ms ∧ (w_X1_decides k4 k5 a0 i1 h (fun E9 h9 => (E9 = "java/lang/IndexOutOfBoundsException" ∧ (Q (1 : Int32) h9))) (fun r2 h3 => wrL h3 a2 (0 : Int32) r2.toInt64 (fun h8 => Q (0 : Int32) h8))))
theorem sg_X0_decides : ySg yX0_decides 3 = true := by decide +kernel
theorem c_X0_decides (G : gT) (l : Launch) (mc ms : Nat) (a0 : Nat) (i1 : Int32) (a2 : Nat) (h : Hp) (Q : Int32 → Hp → Prop) (hst : l.stackTraces = false) (hw : w_X0_decides mc ms a0 i1 a2 h Q) : Ct G l yX0_decides (wsW_ yX0_decides cX0_decides 4 (some .int) hh_X0_decides) 13 285 mc ms [.ref a0, .int i1, .ref a2] h (pI Q) := by
  refine CtW.of (own := RX0) (by decide +kernel) rfl (show (_ : Nat) ≤ _ from Nat.le_of_ble_eq_true rfl) (fun V C => ?_)
  show V h 0 0 0 [(0, .ref a0), (1, .int i1), (2, .ref a2)] []
  unfold w_X0_decides at hw
  refine r_aload_n C rfl 2 rfl dX0_decides_0 (r_iconst (v := (0 : Int32)) C (by decide) dX0_decides_1 (r_aload_n C rfl 0 rfl dX0_decides_2 (r_iload_n C rfl 1 rfl dX0_decides_3 ?_)))
  obtain ⟨hq1, hw⟩ := hw
  obtain ⟨k4, k5, hp6, hp7, hw⟩ := hw
  refine r_callVH (ci := 0) (rest := [.int (0 : Int32), .ref a2]) (As := [.int i1]) C (by decide) sg_X1_decides rfl rfl q2067 q2068 q2069 q77 q2070 rfl (Nat.le_of_ble_eq_true rfl) dX0_decides_4 rfl hq1 hp6 hp7 (c_X1_decides G l k4 k5 a0 i1 h _ _ hst hw) (fun E9 h9 hX9 => ?_) (k_I (fun r2 h3 hw => ?_))
  · rcases hX9 with ⟨rfl, hw⟩
    refine ⟨(tableOf hh_X0_decides).take 0, _, (tableOf hh_X0_decides).drop 1, "java/lang/IndexOutOfBoundsException", rfl, ?_, by decide, by decide, q1579, (List.mem_of_getElem? (i := 9) rfl), fun q9 => ?_⟩
    · intro z hz
      cases hz
    · show V h9 _ _ 12 _ _
      refine r_astore_n (L' := [(3, .ref q9), (0, .ref a0), (1, .int i1), (2, .ref a2)]) C rfl (by decide) rfl dX0_decides_12 (r_iconst (v := (1 : Int32)) C (by decide) dX0_decides_13 ?_)
      exact r_ireturn C dX0_decides_14 hp6 hp7 ⟨_, rfl, hw⟩
  refine r_i2l C dX0_decides_7 ?_
  refine r_lastore C dX0_decides_8 hw (fun h8 hw => ?_)
  refine r_goto (tgt := 15) C (by decide) dX0_decides_9 (r_iconst (v := (0 : Int32)) C (by decide) dX0_decides_15 ?_)
  exact r_ireturn C dX0_decides_16 hp6 hp7 ⟨_, rfl, hw⟩
abbrev hh_X0_ifCracked : List (Nat × Nat × Nat × Nat) := [(0, 10, 13, 28), (0, 10, 17, 13), (0, 10, 21, 15)]
def w_X0_ifCracked (mc ms : Nat) (a0 : Nat) (i1 : Int32) (i2 : Int32) (a3 : Nat) (h : Hp) (Q : Int32 → Hp → Prop) : Prop :=
  hasC h a0 0 ∧ (∃ k4 k5 : Nat, 0 + k4 ≤ mc ∧ 0 + k5 ≤ ms ∧ (w_X1_ifCracked k4 k5 a0 i1 i2 h (fun E9 h9 => (E9 = "java/lang/IndexOutOfBoundsException" ∧ (Q (1 : Int32) h9)) ∨ (E9 = "java/lang/IllegalArgumentException" ∧ (Q (2 : Int32) h9)) ∨ (E9 = "java/lang/IllegalStateException" ∧ (Q (3 : Int32) h9))) (fun r2 h3 => wrL h3 a3 (0 : Int32) r2.toInt64 (fun h8 => Q (0 : Int32) h8))))
theorem sg_X0_ifCracked : ySg yX0_ifCracked 4 = true := by decide +kernel
theorem c_X0_ifCracked (G : gT) (l : Launch) (mc ms : Nat) (a0 : Nat) (i1 : Int32) (i2 : Int32) (a3 : Nat) (h : Hp) (Q : Int32 → Hp → Prop) (hst : l.stackTraces = false) (hw : w_X0_ifCracked mc ms a0 i1 i2 a3 h Q) : Ct G l yX0_ifCracked (wsW_ yX0_ifCracked cX0_ifCracked 5 (some .int) hh_X0_ifCracked) 14 311 mc ms [.ref a0, .int i1, .int i2, .ref a3] h (pI Q) := by
  refine CtW.of (own := RX0) (by decide +kernel) rfl (show (_ : Nat) ≤ _ from Nat.le_of_ble_eq_true rfl) (fun V C => ?_)
  show V h 0 0 0 [(0, .ref a0), (1, .int i1), (2, .int i2), (3, .ref a3)] []
  unfold w_X0_ifCracked at hw
  refine r_aload_n C rfl 3 rfl dX0_ifCracked_0 (r_iconst (v := (0 : Int32)) C (by decide) dX0_ifCracked_1 (r_aload_n C rfl 0 rfl dX0_ifCracked_2 (r_iload_n C rfl 1 rfl dX0_ifCracked_3 (r_iload_n C rfl 2 rfl dX0_ifCracked_4 ?_))))
  obtain ⟨hq1, hw⟩ := hw
  obtain ⟨k4, k5, hp6, hp7, hw⟩ := hw
  refine r_callVH (ci := 0) (rest := [.int (0 : Int32), .ref a3]) (As := [.int i1, .int i2]) C (by decide) sg_X1_ifCracked rfl rfl q2079 q2080 q2081 q77 q2082 rfl (Nat.le_of_ble_eq_true rfl) dX0_ifCracked_5 rfl hq1 hp6 hp7 (c_X1_ifCracked G l k4 k5 a0 i1 i2 h _ _ hst hw) (fun E9 h9 hX9 => ?_) (k_I (fun r2 h3 hw => ?_))
  · rcases hX9 with ⟨rfl, hw⟩ | ⟨rfl, hw⟩ | ⟨rfl, hw⟩
    · refine ⟨(tableOf hh_X0_ifCracked).take 0, _, (tableOf hh_X0_ifCracked).drop 1, "java/lang/IndexOutOfBoundsException", rfl, ?_, by decide, by decide, q1579, (List.mem_of_getElem? (i := 9) rfl), fun q9 => ?_⟩
      · intro z hz
        cases hz
      · show V h9 _ _ 13 _ _
        refine r_astore (L' := [(4, .ref q9), (0, .ref a0), (1, .int i1), (2, .int i2), (3, .ref a3)]) C (by decide) rfl dX0_ifCracked_13 (r_iconst (v := (1 : Int32)) C (by decide) dX0_ifCracked_15 ?_)
        exact r_ireturn C dX0_ifCracked_16 hp6 hp7 ⟨_, rfl, hw⟩
    · refine ⟨(tableOf hh_X0_ifCracked).take 1, _, (tableOf hh_X0_ifCracked).drop 2, "java/lang/IllegalArgumentException", rfl, ?_, by decide, by decide, q1325, (List.mem_of_getElem? (i := 11) rfl), fun q9 => ?_⟩
      · intro z hz
        cases hz with
        | head => exact Or.inr ⟨by decide, "java/lang/IndexOutOfBoundsException", q1579, List.mem_of_getElem? (i := 1) rfl⟩
        | tail _ hz => cases hz
      · show V h9 _ _ 17 _ _
        refine r_astore (L' := [(4, .ref q9), (0, .ref a0), (1, .int i1), (2, .int i2), (3, .ref a3)]) C (by decide) rfl dX0_ifCracked_17 (r_iconst (v := (2 : Int32)) C (by decide) dX0_ifCracked_19 ?_)
        exact r_ireturn C dX0_ifCracked_20 hp6 hp7 ⟨_, rfl, hw⟩
    · refine ⟨(tableOf hh_X0_ifCracked).take 2, _, (tableOf hh_X0_ifCracked).drop 3, "java/lang/IllegalStateException", rfl, ?_, by decide, by decide, q1326, (List.mem_of_getElem? (i := 47) rfl), fun q9 => ?_⟩
      · intro z hz
        cases hz with
        | head => exact Or.inr ⟨by decide, "java/lang/IndexOutOfBoundsException", q1579, List.mem_of_getElem? (i := 3) rfl⟩
        | tail _ hz =>
          cases hz with
          | head => exact Or.inr ⟨by decide, "java/lang/IllegalArgumentException", q1325, List.mem_of_getElem? (i := 2) rfl⟩
          | tail _ hz => cases hz
      · show V h9 _ _ 21 _ _
        refine r_astore (L' := [(4, .ref q9), (0, .ref a0), (1, .int i1), (2, .int i2), (3, .ref a3)]) C (by decide) rfl dX0_ifCracked_21 (r_iconst (v := (3 : Int32)) C (by decide) dX0_ifCracked_23 ?_)
        exact r_ireturn C dX0_ifCracked_24 hp6 hp7 ⟨_, rfl, hw⟩
  refine r_i2l C dX0_ifCracked_8 ?_
  refine r_lastore C dX0_ifCracked_9 hw (fun h8 hw => ?_)
  refine r_goto (tgt := 25) C (by decide) dX0_ifCracked_10 (r_iconst (v := (0 : Int32)) C (by decide) dX0_ifCracked_25 ?_)
  exact r_ireturn C dX0_ifCracked_26 hp6 hp7 ⟨_, rfl, hw⟩
abbrev hh_X0_ifHung : List (Nat × Nat × Nat × Nat) := [(0, 10, 13, 28)]
def w_X0_ifHung (mc ms : Nat) (a0 : Nat) (i1 : Int32) (i2 : Int32) (a3 : Nat) (h : Hp) (Q : Int32 → Hp → Prop) : Prop :=
  hasC h a0 0 ∧ (∃ k4 k5 : Nat, 0 + k4 ≤ mc ∧ 0 + k5 ≤ ms ∧ (w_X1_ifHung k4 k5 a0 i1 i2 h (fun E9 h9 => (E9 = "java/lang/IndexOutOfBoundsException" ∧ (Q (1 : Int32) h9))) (fun r2 h3 => wrL h3 a3 (0 : Int32) r2.toInt64 (fun h8 => Q (0 : Int32) h8))))
theorem sg_X0_ifHung : ySg yX0_ifHung 4 = true := by decide +kernel
theorem c_X0_ifHung (G : gT) (l : Launch) (mc ms : Nat) (a0 : Nat) (i1 : Int32) (i2 : Int32) (a3 : Nat) (h : Hp) (Q : Int32 → Hp → Prop) (hst : l.stackTraces = false) (hw : w_X0_ifHung mc ms a0 i1 i2 a3 h Q) : Ct G l yX0_ifHung (wsW_ yX0_ifHung cX0_ifHung 5 (some .int) hh_X0_ifHung) 12 261 mc ms [.ref a0, .int i1, .int i2, .ref a3] h (pI Q) := by
  refine CtW.of (own := RX0) (by decide +kernel) rfl (show (_ : Nat) ≤ _ from Nat.le_of_ble_eq_true rfl) (fun V C => ?_)
  show V h 0 0 0 [(0, .ref a0), (1, .int i1), (2, .int i2), (3, .ref a3)] []
  unfold w_X0_ifHung at hw
  refine r_aload_n C rfl 3 rfl dX0_ifHung_0 (r_iconst (v := (0 : Int32)) C (by decide) dX0_ifHung_1 (r_aload_n C rfl 0 rfl dX0_ifHung_2 (r_iload_n C rfl 1 rfl dX0_ifHung_3 (r_iload_n C rfl 2 rfl dX0_ifHung_4 ?_))))
  obtain ⟨hq1, hw⟩ := hw
  obtain ⟨k4, k5, hp6, hp7, hw⟩ := hw
  refine r_callVH (ci := 0) (rest := [.int (0 : Int32), .ref a3]) (As := [.int i1, .int i2]) C (by decide) sg_X1_ifHung rfl rfl q2086 q2087 q2088 q77 q2089 rfl (Nat.le_of_ble_eq_true rfl) dX0_ifHung_5 rfl hq1 hp6 hp7 (c_X1_ifHung G l k4 k5 a0 i1 i2 h _ _ hst hw) (fun E9 h9 hX9 => ?_) (k_I (fun r2 h3 hw => ?_))
  · rcases hX9 with ⟨rfl, hw⟩
    refine ⟨(tableOf hh_X0_ifHung).take 0, _, (tableOf hh_X0_ifHung).drop 1, "java/lang/IndexOutOfBoundsException", rfl, ?_, by decide, by decide, q1579, (List.mem_of_getElem? (i := 9) rfl), fun q9 => ?_⟩
    · intro z hz
      cases hz
    · show V h9 _ _ 13 _ _
      refine r_astore (L' := [(4, .ref q9), (0, .ref a0), (1, .int i1), (2, .int i2), (3, .ref a3)]) C (by decide) rfl dX0_ifHung_13 (r_iconst (v := (1 : Int32)) C (by decide) dX0_ifHung_15 ?_)
      exact r_ireturn C dX0_ifHung_16 hp6 hp7 ⟨_, rfl, hw⟩
  refine r_i2l C dX0_ifHung_8 ?_
  refine r_lastore C dX0_ifHung_9 hw (fun h8 hw => ?_)
  refine r_goto (tgt := 17) C (by decide) dX0_ifHung_10 (r_iconst (v := (0 : Int32)) C (by decide) dX0_ifHung_17 ?_)
  exact r_ireturn C dX0_ifHung_18 hp6 hp7 ⟨_, rfl, hw⟩
abbrev hh_X0_inYear : List (Nat × Nat × Nat × Nat) := [(0, 9, 12, 13)]
def w_X0_inYear (mc ms : Nat) (a0 : Nat) (i1 : Int32) (a2 : Nat) (h : Hp) (Q : Int32 → Hp → Prop) : Prop :=
  hasC h a0 0 ∧ (∃ k4 k5 : Nat, 0 + k4 ≤ mc ∧ 0 + k5 ≤ ms ∧ (w_X1_inYear k4 k5 a0 i1 h (fun E9 h9 => (E9 = "java/lang/IllegalArgumentException" ∧ (Q (1 : Int32) h9))) (fun r2 h3 => wrL h3 a2 (0 : Int32) r2.toInt64 (fun h8 => Q (0 : Int32) h8))))
theorem sg_X0_inYear : ySg yX0_inYear 3 = true := by decide +kernel
theorem c_X0_inYear (G : gT) (l : Launch) (mc ms : Nat) (a0 : Nat) (i1 : Int32) (a2 : Nat) (h : Hp) (Q : Int32 → Hp → Prop) (hst : l.stackTraces = false) (hw : w_X0_inYear mc ms a0 i1 a2 h Q) : Ct G l yX0_inYear (wsW_ yX0_inYear cX0_inYear 4 (some .int) hh_X0_inYear) 13 286 mc ms [.ref a0, .int i1, .ref a2] h (pI Q) := by
  refine CtW.of (own := RX0) (by decide +kernel) rfl (show (_ : Nat) ≤ _ from Nat.le_of_ble_eq_true rfl) (fun V C => ?_)
  show V h 0 0 0 [(0, .ref a0), (1, .int i1), (2, .ref a2)] []
  unfold w_X0_inYear at hw
  refine r_aload_n C rfl 2 rfl dX0_inYear_0 (r_iconst (v := (0 : Int32)) C (by decide) dX0_inYear_1 (r_aload_n C rfl 0 rfl dX0_inYear_2 (r_iload_n C rfl 1 rfl dX0_inYear_3 ?_)))
  obtain ⟨hq1, hw⟩ := hw
  obtain ⟨k4, k5, hp6, hp7, hw⟩ := hw
  refine r_callVH (ci := 0) (rest := [.int (0 : Int32), .ref a2]) (As := [.int i1]) C (by decide) sg_X1_inYear rfl rfl q2093 q2094 q2095 q77 q2096 rfl (Nat.le_of_ble_eq_true rfl) dX0_inYear_4 rfl hq1 hp6 hp7 (c_X1_inYear G l k4 k5 a0 i1 h _ _ hst hw) (fun E9 h9 hX9 => ?_) (k_I (fun r2 h3 hw => ?_))
  · rcases hX9 with ⟨rfl, hw⟩
    refine ⟨(tableOf hh_X0_inYear).take 0, _, (tableOf hh_X0_inYear).drop 1, "java/lang/IllegalArgumentException", rfl, ?_, by decide, by decide, q1325, (List.mem_of_getElem? (i := 11) rfl), fun q9 => ?_⟩
    · intro z hz
      cases hz
    · show V h9 _ _ 12 _ _
      refine r_astore_n (L' := [(3, .ref q9), (0, .ref a0), (1, .int i1), (2, .ref a2)]) C rfl (by decide) rfl dX0_inYear_12 (r_iconst (v := (1 : Int32)) C (by decide) dX0_inYear_13 ?_)
      exact r_ireturn C dX0_inYear_14 hp6 hp7 ⟨_, rfl, hw⟩
  refine r_i2l C dX0_inYear_7 ?_
  refine r_lastore C dX0_inYear_8 hw (fun h8 hw => ?_)
  refine r_goto (tgt := 15) C (by decide) dX0_inYear_9 (r_iconst (v := (0 : Int32)) C (by decide) dX0_inYear_15 ?_)
  exact r_ireturn C dX0_inYear_16 hp6 hp7 ⟨_, rfl, hw⟩
abbrev hh_X0_leastBubbles : List (Nat × Nat × Nat × Nat) := [(0, 10, 13, 13)]
def w_X0_leastBubbles (mc ms : Nat) (a0 : Nat) (i1 : Int32) (i2 : Int32) (a3 : Nat) (h : Hp) (Q : Int32 → Hp → Prop) : Prop :=
  hasC h a0 0 ∧ (∃ k4 k5 : Nat, 0 + k4 ≤ mc ∧ 0 + k5 ≤ ms ∧ (w_X1_leastBubbles k4 k5 a0 i1 i2 h (fun E9 h9 => (E9 = "java/lang/IllegalArgumentException" ∧ (Q (1 : Int32) h9))) (fun r2 h3 => wrL h3 a3 (0 : Int32) r2.toInt64 (fun h8 => Q (0 : Int32) h8))))
theorem sg_X0_leastBubbles : ySg yX0_leastBubbles 4 = true := by decide +kernel
theorem c_X0_leastBubbles (G : gT) (l : Launch) (mc ms : Nat) (a0 : Nat) (i1 : Int32) (i2 : Int32) (a3 : Nat) (h : Hp) (Q : Int32 → Hp → Prop) (hst : l.stackTraces = false) (hw : w_X0_leastBubbles mc ms a0 i1 i2 a3 h Q) : Ct G l yX0_leastBubbles (wsW_ yX0_leastBubbles cX0_leastBubbles 5 (some .int) hh_X0_leastBubbles) 14 312 mc ms [.ref a0, .int i1, .int i2, .ref a3] h (pI Q) := by
  refine CtW.of (own := RX0) (by decide +kernel) rfl (show (_ : Nat) ≤ _ from Nat.le_of_ble_eq_true rfl) (fun V C => ?_)
  show V h 0 0 0 [(0, .ref a0), (1, .int i1), (2, .int i2), (3, .ref a3)] []
  unfold w_X0_leastBubbles at hw
  refine r_aload_n C rfl 3 rfl dX0_leastBubbles_0 (r_iconst (v := (0 : Int32)) C (by decide) dX0_leastBubbles_1 (r_aload_n C rfl 0 rfl dX0_leastBubbles_2 (r_iload_n C rfl 1 rfl dX0_leastBubbles_3 (r_iload_n C rfl 2 rfl dX0_leastBubbles_4 ?_))))
  obtain ⟨hq1, hw⟩ := hw
  obtain ⟨k4, k5, hp6, hp7, hw⟩ := hw
  refine r_callVH (ci := 0) (rest := [.int (0 : Int32), .ref a3]) (As := [.int i1, .int i2]) C (by decide) sg_X1_leastBubbles rfl rfl q2100 q2101 q2102 q77 q2103 rfl (Nat.le_of_ble_eq_true rfl) dX0_leastBubbles_5 rfl hq1 hp6 hp7 (c_X1_leastBubbles G l k4 k5 a0 i1 i2 h _ _ hst hw) (fun E9 h9 hX9 => ?_) (k_I (fun r2 h3 hw => ?_))
  · rcases hX9 with ⟨rfl, hw⟩
    refine ⟨(tableOf hh_X0_leastBubbles).take 0, _, (tableOf hh_X0_leastBubbles).drop 1, "java/lang/IllegalArgumentException", rfl, ?_, by decide, by decide, q1325, (List.mem_of_getElem? (i := 11) rfl), fun q9 => ?_⟩
    · intro z hz
      cases hz
    · show V h9 _ _ 13 _ _
      refine r_astore (L' := [(4, .ref q9), (0, .ref a0), (1, .int i1), (2, .int i2), (3, .ref a3)]) C (by decide) rfl dX0_leastBubbles_13 (r_iconst (v := (1 : Int32)) C (by decide) dX0_leastBubbles_15 ?_)
      exact r_ireturn C dX0_leastBubbles_16 hp6 hp7 ⟨_, rfl, hw⟩
  refine r_i2l C dX0_leastBubbles_8 ?_
  refine r_lastore C dX0_leastBubbles_9 hw (fun h8 hw => ?_)
  refine r_goto (tgt := 17) C (by decide) dX0_leastBubbles_10 (r_iconst (v := (0 : Int32)) C (by decide) dX0_leastBubbles_17 ?_)
  exact r_ireturn C dX0_leastBubbles_18 hp6 hp7 ⟨_, rfl, hw⟩
abbrev hh_X0_runScript : List (Nat × Nat × Nat × Nat) := [(0, 11, 14, 13)]
def w_X0_runScript (mc ms : Nat) (a0 : Nat) (i1 : Int32) (j2 : Int64) (a4 : Nat) (h : Hp) (Q : Int32 → Hp → Prop) : Prop :=
  hasC h a0 0 ∧ (∃ k4 k5 : Nat, 0 + k4 ≤ mc ∧ 0 + k5 ≤ ms ∧ (w_X1_runScript k4 k5 a0 i1 j2 h (fun E9 h9 => (E9 = "java/lang/IllegalArgumentException" ∧ (Q (1 : Int32) h9))) (fun r2 h3 => wrL h3 a4 (0 : Int32) r2.toInt64 (fun h8 => Q (0 : Int32) h8))))
theorem sg_X0_runScript : ySg yX0_runScript 4 = true := by decide +kernel
theorem c_X0_runScript (G : gT) (l : Launch) (mc ms : Nat) (a0 : Nat) (i1 : Int32) (j2 : Int64) (a4 : Nat) (h : Hp) (Q : Int32 → Hp → Prop) (hst : l.stackTraces = false) (hw : w_X0_runScript mc ms a0 i1 j2 a4 h Q) : Ct G l yX0_runScript (wsW_ yX0_runScript cX0_runScript 6 (some .int) hh_X0_runScript) 15 345 mc ms [.ref a0, .int i1, .long j2, .ref a4] h (pI Q) := by
  refine CtW.of (own := RX0) (by decide +kernel) rfl (show (_ : Nat) ≤ _ from Nat.le_of_ble_eq_true rfl) (fun V C => ?_)
  show V h 0 0 0 [(0, .ref a0), (1, .int i1), (2, .long j2), (4, .ref a4)] []
  unfold w_X0_runScript at hw
  refine r_aload C 3 rfl dX0_runScript_0 (r_iconst (v := (0 : Int32)) C (by decide) dX0_runScript_2 (r_aload_n C rfl 0 rfl dX0_runScript_3 (r_iload_n C rfl 1 rfl dX0_runScript_4 (r_lload_n C rfl 2 rfl dX0_runScript_5 ?_))))
  obtain ⟨hq1, hw⟩ := hw
  obtain ⟨k4, k5, hp6, hp7, hw⟩ := hw
  refine r_callVH (ci := 0) (rest := [.int (0 : Int32), .ref a4]) (As := [.int i1, .long j2]) C (by decide) sg_X1_runScript rfl rfl q2107 q2108 q2109 q77 q2110 rfl (Nat.le_of_ble_eq_true rfl) dX0_runScript_6 rfl hq1 hp6 hp7 (c_X1_runScript G l k4 k5 a0 i1 j2 h _ _ hst hw) (fun E9 h9 hX9 => ?_) (k_I (fun r2 h3 hw => ?_))
  · rcases hX9 with ⟨rfl, hw⟩
    refine ⟨(tableOf hh_X0_runScript).take 0, _, (tableOf hh_X0_runScript).drop 1, "java/lang/IllegalArgumentException", rfl, ?_, by decide, by decide, q1325, (List.mem_of_getElem? (i := 11) rfl), fun q9 => ?_⟩
    · intro z hz
      cases hz
    · show V h9 _ _ 14 _ _
      refine r_astore (L' := [(5, .ref q9), (0, .ref a0), (1, .int i1), (2, .long j2), (4, .ref a4)]) C (by decide) rfl dX0_runScript_14 (r_iconst (v := (1 : Int32)) C (by decide) dX0_runScript_16 ?_)
      exact r_ireturn C dX0_runScript_17 hp6 hp7 ⟨_, rfl, hw⟩
  refine r_i2l C dX0_runScript_9 ?_
  refine r_lastore C dX0_runScript_10 hw (fun h8 hw => ?_)
  refine r_goto (tgt := 18) C (by decide) dX0_runScript_11 (r_iconst (v := (0 : Int32)) C (by decide) dX0_runScript_18 ?_)
  exact r_ireturn C dX0_runScript_19 hp6 hp7 ⟨_, rfl, hw⟩
abbrev hh_X0_simulate : List (Nat × Nat × Nat × Nat) := [(0, 11, 14, 13)]
def w_X0_simulate (mc ms : Nat) (a0 : Nat) (j1 : Int64) (i3 : Int32) (a4 : Nat) (h : Hp) (Q : Int32 → Hp → Prop) : Prop :=
  hasC h a0 0 ∧ (∃ k4 k5 : Nat, 0 + k4 ≤ mc ∧ 0 + k5 ≤ ms ∧ (w_X1_simulate k4 k5 a0 j1 i3 h (fun E9 h9 => (E9 = "java/lang/IllegalArgumentException" ∧ (Q (1 : Int32) h9))) (fun r2 h3 => wrL h3 a4 (0 : Int32) r2.toInt64 (fun h8 => Q (0 : Int32) h8))))
theorem sg_X0_simulate : ySg yX0_simulate 4 = true := by decide +kernel
theorem c_X0_simulate (G : gT) (l : Launch) (mc ms : Nat) (a0 : Nat) (j1 : Int64) (i3 : Int32) (a4 : Nat) (h : Hp) (Q : Int32 → Hp → Prop) (hst : l.stackTraces = false) (hw : w_X0_simulate mc ms a0 j1 i3 a4 h Q) : Ct G l yX0_simulate (wsW_ yX0_simulate cX0_simulate 6 (some .int) hh_X0_simulate) 15 341 mc ms [.ref a0, .long j1, .int i3, .ref a4] h (pI Q) := by
  refine CtW.of (own := RX0) (by decide +kernel) rfl (show (_ : Nat) ≤ _ from Nat.le_of_ble_eq_true rfl) (fun V C => ?_)
  show V h 0 0 0 [(0, .ref a0), (1, .long j1), (3, .int i3), (4, .ref a4)] []
  unfold w_X0_simulate at hw
  refine r_aload C 3 rfl dX0_simulate_0 (r_iconst (v := (0 : Int32)) C (by decide) dX0_simulate_2 (r_aload_n C rfl 0 rfl dX0_simulate_3 (r_lload_n C rfl 1 rfl dX0_simulate_4 (r_iload_n C rfl 2 rfl dX0_simulate_5 ?_))))
  obtain ⟨hq1, hw⟩ := hw
  obtain ⟨k4, k5, hp6, hp7, hw⟩ := hw
  refine r_callVH (ci := 0) (rest := [.int (0 : Int32), .ref a4]) (As := [.long j1, .int i3]) C (by decide) sg_X1_simulate rfl rfl q2119 q2120 q2121 q77 q2122 rfl (Nat.le_of_ble_eq_true rfl) dX0_simulate_6 rfl hq1 hp6 hp7 (c_X1_simulate G l k4 k5 a0 j1 i3 h _ _ hst hw) (fun E9 h9 hX9 => ?_) (k_I (fun r2 h3 hw => ?_))
  · rcases hX9 with ⟨rfl, hw⟩
    refine ⟨(tableOf hh_X0_simulate).take 0, _, (tableOf hh_X0_simulate).drop 1, "java/lang/IllegalArgumentException", rfl, ?_, by decide, by decide, q1325, (List.mem_of_getElem? (i := 11) rfl), fun q9 => ?_⟩
    · intro z hz
      cases hz
    · show V h9 _ _ 14 _ _
      refine r_astore (L' := [(5, .ref q9), (0, .ref a0), (1, .long j1), (3, .int i3), (4, .ref a4)]) C (by decide) rfl dX0_simulate_14 (r_iconst (v := (1 : Int32)) C (by decide) dX0_simulate_16 ?_)
      exact r_ireturn C dX0_simulate_17 hp6 hp7 ⟨_, rfl, hw⟩
  refine r_i2l C dX0_simulate_9 ?_
  refine r_lastore C dX0_simulate_10 hw (fun h8 hw => ?_)
  refine r_goto (tgt := 18) C (by decide) dX0_simulate_11 (r_iconst (v := (0 : Int32)) C (by decide) dX0_simulate_18 ?_)
  exact r_ireturn C dX0_simulate_19 hp6 hp7 ⟨_, rfl, hw⟩
abbrev hh_X0_save : List (Nat × Nat × Nat × Nat) := [(0, 9, 12, 28)]
def w_X0_save (mc ms : Nat) (a0 : Nat) (i1 : Int32) (a2 : Nat) (h : Hp) (Q : Int32 → Hp → Prop) : Prop :=
  hasC h a0 0 ∧ (∃ k4 k5 : Nat, 0 + k4 ≤ mc ∧ 0 + k5 ≤ ms ∧ (w_X1_save k4 k5 a0 i1 h (fun E9 h9 => (E9 = "java/lang/IndexOutOfBoundsException" ∧ (Q (1 : Int32) h9))) (fun r2 h3 => wrL h3 a2 (0 : Int32) r2.toInt64 (fun h8 => Q (0 : Int32) h8))))
theorem sg_X0_save : ySg yX0_save 3 = true := by decide +kernel
theorem c_X0_save (G : gT) (l : Launch) (mc ms : Nat) (a0 : Nat) (i1 : Int32) (a2 : Nat) (h : Hp) (Q : Int32 → Hp → Prop) (hst : l.stackTraces = false) (hw : w_X0_save mc ms a0 i1 a2 h Q) : Ct G l yX0_save (wsW_ yX0_save cX0_save 4 (some .int) hh_X0_save) 10 259 mc ms [.ref a0, .int i1, .ref a2] h (pI Q) := by
  refine CtW.of (own := RX0) (by decide +kernel) rfl (show (_ : Nat) ≤ _ from Nat.le_of_ble_eq_true rfl) (fun V C => ?_)
  show V h 0 0 0 [(0, .ref a0), (1, .int i1), (2, .ref a2)] []
  unfold w_X0_save at hw
  refine r_aload_n C rfl 2 rfl dX0_save_0 (r_iconst (v := (0 : Int32)) C (by decide) dX0_save_1 (r_aload_n C rfl 0 rfl dX0_save_2 (r_iload_n C rfl 1 rfl dX0_save_3 ?_)))
  obtain ⟨hq1, hw⟩ := hw
  obtain ⟨k4, k5, hp6, hp7, hw⟩ := hw
  refine r_callVH (ci := 0) (rest := [.int (0 : Int32), .ref a2]) (As := [.int i1]) C (by decide) sg_X1_save rfl rfl q2132 q2133 q2134 q77 q2135 rfl (Nat.le_of_ble_eq_true rfl) dX0_save_4 rfl hq1 hp6 hp7 (c_X1_save G l k4 k5 a0 i1 h _ _ hst hw) (fun E9 h9 hX9 => ?_) (k_I (fun r2 h3 hw => ?_))
  · rcases hX9 with ⟨rfl, hw⟩
    refine ⟨(tableOf hh_X0_save).take 0, _, (tableOf hh_X0_save).drop 1, "java/lang/IndexOutOfBoundsException", rfl, ?_, by decide, by decide, q1579, (List.mem_of_getElem? (i := 9) rfl), fun q9 => ?_⟩
    · intro z hz
      cases hz
    · show V h9 _ _ 12 _ _
      refine r_astore_n (L' := [(3, .ref q9), (0, .ref a0), (1, .int i1), (2, .ref a2)]) C rfl (by decide) rfl dX0_save_12 (r_iconst (v := (1 : Int32)) C (by decide) dX0_save_13 ?_)
      exact r_ireturn C dX0_save_14 hp6 hp7 ⟨_, rfl, hw⟩
  refine r_i2l C dX0_save_7 ?_
  refine r_lastore C dX0_save_8 hw (fun h8 hw => ?_)
  refine r_goto (tgt := 15) C (by decide) dX0_save_9 (r_iconst (v := (0 : Int32)) C (by decide) dX0_save_15 ?_)
  exact r_ireturn C dX0_save_16 hp6 hp7 ⟨_, rfl, hw⟩
abbrev hh_X0_restore : List (Nat × Nat × Nat × Nat) := [(0, 9, 12, 28), (0, 9, 15, 15)]
def w_X0_restore (mc ms : Nat) (a0 : Nat) (i1 : Int32) (a2 : Nat) (h : Hp) (Q : Int32 → Hp → Prop) : Prop :=
  hasC h a0 0 ∧ (∃ k4 k5 : Nat, 0 + k4 ≤ mc ∧ 0 + k5 ≤ ms ∧ (w_X1_restore k4 k5 a0 i1 h (fun E9 h9 => (E9 = "java/lang/IndexOutOfBoundsException" ∧ (Q (1 : Int32) h9)) ∨ (E9 = "java/lang/IllegalStateException" ∧ (Q (2 : Int32) h9))) (fun r2 h3 => wrL h3 a2 (0 : Int32) r2.toInt64 (fun h8 => Q (0 : Int32) h8))))
theorem sg_X0_restore : ySg yX0_restore 3 = true := by decide +kernel
theorem c_X0_restore (G : gT) (l : Launch) (mc ms : Nat) (a0 : Nat) (i1 : Int32) (a2 : Nat) (h : Hp) (Q : Int32 → Hp → Prop) (hst : l.stackTraces = false) (hw : w_X0_restore mc ms a0 i1 a2 h Q) : Ct G l yX0_restore (wsW_ yX0_restore cX0_restore 4 (some .int) hh_X0_restore) 10 259 mc ms [.ref a0, .int i1, .ref a2] h (pI Q) := by
  refine CtW.of (own := RX0) (by decide +kernel) rfl (show (_ : Nat) ≤ _ from Nat.le_of_ble_eq_true rfl) (fun V C => ?_)
  show V h 0 0 0 [(0, .ref a0), (1, .int i1), (2, .ref a2)] []
  unfold w_X0_restore at hw
  refine r_aload_n C rfl 2 rfl dX0_restore_0 (r_iconst (v := (0 : Int32)) C (by decide) dX0_restore_1 (r_aload_n C rfl 0 rfl dX0_restore_2 (r_iload_n C rfl 1 rfl dX0_restore_3 ?_)))
  obtain ⟨hq1, hw⟩ := hw
  obtain ⟨k4, k5, hp6, hp7, hw⟩ := hw
  refine r_callVH (ci := 0) (rest := [.int (0 : Int32), .ref a2]) (As := [.int i1]) C (by decide) sg_X1_restore rfl rfl q2142 q2143 q2144 q77 q2145 rfl (Nat.le_of_ble_eq_true rfl) dX0_restore_4 rfl hq1 hp6 hp7 (c_X1_restore G l k4 k5 a0 i1 h _ _ hst hw) (fun E9 h9 hX9 => ?_) (k_I (fun r2 h3 hw => ?_))
  · rcases hX9 with ⟨rfl, hw⟩ | ⟨rfl, hw⟩
    · refine ⟨(tableOf hh_X0_restore).take 0, _, (tableOf hh_X0_restore).drop 1, "java/lang/IndexOutOfBoundsException", rfl, ?_, by decide, by decide, q1579, (List.mem_of_getElem? (i := 9) rfl), fun q9 => ?_⟩
      · intro z hz
        cases hz
      · show V h9 _ _ 12 _ _
        refine r_astore_n (L' := [(3, .ref q9), (0, .ref a0), (1, .int i1), (2, .ref a2)]) C rfl (by decide) rfl dX0_restore_12 (r_iconst (v := (1 : Int32)) C (by decide) dX0_restore_13 ?_)
        exact r_ireturn C dX0_restore_14 hp6 hp7 ⟨_, rfl, hw⟩
    · refine ⟨(tableOf hh_X0_restore).take 1, _, (tableOf hh_X0_restore).drop 2, "java/lang/IllegalStateException", rfl, ?_, by decide, by decide, q1326, (List.mem_of_getElem? (i := 47) rfl), fun q9 => ?_⟩
      · intro z hz
        cases hz with
        | head => exact Or.inr ⟨by decide, "java/lang/IndexOutOfBoundsException", q1579, List.mem_of_getElem? (i := 3) rfl⟩
        | tail _ hz => cases hz
      · show V h9 _ _ 15 _ _
        refine r_astore_n (L' := [(3, .ref q9), (0, .ref a0), (1, .int i1), (2, .ref a2)]) C rfl (by decide) rfl dX0_restore_15 (r_iconst (v := (2 : Int32)) C (by decide) dX0_restore_16 ?_)
        exact r_ireturn C dX0_restore_17 hp6 hp7 ⟨_, rfl, hw⟩
  refine r_i2l C dX0_restore_7 ?_
  refine r_lastore C dX0_restore_8 hw (fun h8 hw => ?_)
  refine r_goto (tgt := 18) C (by decide) dX0_restore_9 (r_iconst (v := (0 : Int32)) C (by decide) dX0_restore_18 ?_)
  exact r_ireturn C dX0_restore_19 hp6 hp7 ⟨_, rfl, hw⟩
