set_option maxRecDepth 100000
set_option maxHeartbeats 4000000

theorem df_0 : ∀ j, j < 7 → defaultValue (tyX1 j) = vp_V [.null, .null, .null, .null, .int 0, .int 0, .int 0] j := fun j hj => match j, hj with
  | 0, _ => rfl
  | 1, _ => rfl
  | 2, _ => rfl
  | 3, _ => rfl
  | 4, _ => rfl
  | 5, _ => rfl
  | 6, _ => rfl
  | j + 7, hj => absurd hj (by omega)
theorem df_1 : ∀ j, j < 6 → defaultValue (tyX2 j) = vp_V [.null, .null, .null, .null, .null, .null] j := fun j hj => match j, hj with
  | 0, _ => rfl
  | 1, _ => rfl
  | 2, _ => rfl
  | 3, _ => rfl
  | 4, _ => rfl
  | 5, _ => rfl
  | j + 6, hj => absurd hj (by omega)
theorem df_2 : ∀ j, j < 18 → defaultValue (tyX3 j) = vp_V [.int 0, .null, .null, .null, .null, .int 0, .null, .null, .null, .int 0, .int 0, .int 0, .int 0, .int 0, .int 0, .int 0, .int 0, .null] j := fun j hj => match j, hj with
  | 0, _ => rfl
  | 1, _ => rfl
  | 2, _ => rfl
  | 3, _ => rfl
  | 4, _ => rfl
  | 5, _ => rfl
  | 6, _ => rfl
  | 7, _ => rfl
  | 8, _ => rfl
  | 9, _ => rfl
  | 10, _ => rfl
  | 11, _ => rfl
  | 12, _ => rfl
  | 13, _ => rfl
  | 14, _ => rfl
  | 15, _ => rfl
  | 16, _ => rfl
  | 17, _ => rfl
  | j + 18, hj => absurd hj (by omega)
theorem df_3 : ∀ j, j < 2 → defaultValue (tyX4 j) = vp_V [.int 0, .int 0] j := fun j hj => match j, hj with
  | 0, _ => rfl
  | 1, _ => rfl
  | j + 2, hj => absurd hj (by omega)
theorem df_4 : ∀ j, j < 4 → defaultValue (tyX5 j) = vp_V [.int 0, .int 0, .int 0, .null] j := fun j hj => match j, hj with
  | 0, _ => rfl
  | 1, _ => rfl
  | 2, _ => rfl
  | 3, _ => rfl
  | j + 4, hj => absurd hj (by omega)
theorem df_5 : ∀ j, j < 6 → defaultValue (tyX6 j) = vp_V [.int 0, .int 0, .int 0, .int 0, .int 0, .int 0] j := fun j hj => match j, hj with
  | 0, _ => rfl
  | 1, _ => rfl
  | 2, _ => rfl
  | 3, _ => rfl
  | 4, _ => rfl
  | 5, _ => rfl
  | j + 6, hj => absurd hj (by omega)
theorem df_6 : ∀ j, j < 3 → defaultValue (tyX7 j) = vp_V [.null, .null, .null] j := fun j hj => match j, hj with
  | 0, _ => rfl
  | 1, _ => rfl
  | 2, _ => rfl
  | j + 3, hj => absurd hj (by omega)
theorem df_7 : ∀ j, j < 3 → defaultValue (tyX8 j) = vp_V [.null, .int 0, .null] j := fun j hj => match j, hj with
  | 0, _ => rfl
  | 1, _ => rfl
  | 2, _ => rfl
  | j + 3, hj => absurd hj (by omega)
theorem df_8 : ∀ j, j < 3 → defaultValue (tyJ2 j) = vp_V [.int 0, .null, .int 0] j := fun j hj => match j, hj with
  | 0, _ => rfl
  | 1, _ => rfl
  | 2, _ => rfl
  | j + 3, hj => absurd hj (by omega)
theorem df_9 : ∀ j, j < 4 → defaultValue (tyJ4 j) = vp_V [.int 0, .int 0, .null, .null] j := fun j hj => match j, hj with
  | 0, _ => rfl
  | 1, _ => rfl
  | 2, _ => rfl
  | 3, _ => rfl
  | j + 4, hj => absurd hj (by omega)
theorem df_10 : ∀ j, j < 3 → defaultValue (tyJ8 j) = vp_V [.null, .null, .null] j := fun j hj => match j, hj with
  | 0, _ => rfl
  | 1, _ => rfl
  | 2, _ => rfl
  | j + 3, hj => absurd hj (by omega)
theorem df_11 : ∀ j, j < 3 → defaultValue (tyJ9 j) = vp_V [.null, .int 0, .int 0] j := fun j hj => match j, hj with
  | 0, _ => rfl
  | 1, _ => rfl
  | 2, _ => rfl
  | j + 3, hj => absurd hj (by omega)
theorem df_12 : ∀ j, j < 1 → defaultValue (tyJ24 j) = vp_V [.int 0] j := fun j hj => match j, hj with
  | 0, _ => rfl
  | j + 1, hj => absurd hj (by omega)
theorem df_13 : ∀ j, j < 4 → defaultValue (tyJ25 j) = vp_V [.int 0, .int 0, .int 0, .null] j := fun j hj => match j, hj with
  | 0, _ => rfl
  | 1, _ => rfl
  | 2, _ => rfl
  | 3, _ => rfl
  | j + 4, hj => absurd hj (by omega)
theorem df_14 : ∀ j, j < 5 → defaultValue (tyJ28 j) = vp_V [.null, .null, .int 0, .int 0, .null] j := fun j hj => match j, hj with
  | 0, _ => rfl
  | 1, _ => rfl
  | 2, _ => rfl
  | 3, _ => rfl
  | 4, _ => rfl
  | j + 5, hj => absurd hj (by omega)
theorem df_15 : ∀ j, j < 3 → defaultValue (tyJ30 j) = vp_V [.null, .int 0, .int 0] j := fun j hj => match j, hj with
  | 0, _ => rfl
  | 1, _ => rfl
  | 2, _ => rfl
  | j + 3, hj => absurd hj (by omega)
def w_J23_init (a0 : Nat) (h : Hp) (Q : Hp → Prop) : Prop :=
  Q h
theorem sg_J23_init : ySg yJ23_init 0 = true := by decide +kernel
theorem c_J23_init (G : gT) (l : Launch) (a0 : Nat) (h : Hp) (Q : Hp → Prop) (hw : w_J23_init a0 h Q) : Ct G l yJ23_init (ws_ yJ23_init cJ23_init 1 (none)) 1 12 0 0 [.ref a0] h (pV Q) := by
  refine Ct.of (own := RJ23) true (by decide +kernel) rfl (show (_ : Nat) ≤ _ from Nat.le_of_ble_eq_true rfl) (fun _ => rfl) (fun V C => ?_)
  show V h 0 0 0 [(0, .ref a0)] []
  unfold w_J23_init at hw
  refine r_aload_n C rfl 0 rfl dJ23_init_0 ?_
  refine r_objInit C q910 q128 q129 (by decide) (by decide) dJ23_init_1 ?_
  exact r_return C dJ23_init_4 (Nat.le_refl _) (Nat.le_refl _) ⟨rfl, hw⟩
def w_J24_init (a0 : Nat) (i1 : Int32) (h : Hp) (Q : Hp → Prop) : Prop :=
  w_J23_init a0 h (fun h2 => pf h2 a0 12 0 (.int i1) (fun h3 => Q h3))
theorem sg_J24_init : ySg yJ24_init 1 = true := by decide +kernel
theorem c_J24_init (G : gT) (l : Launch) (a0 : Nat) (i1 : Int32) (h : Hp) (Q : Hp → Prop) (hw : w_J24_init a0 i1 h Q) : Ct G l yJ24_init (ws_ yJ24_init cJ24_init 2 (none)) 2 32 0 0 [.ref a0, .int i1] h (pV Q) := by
  refine Ct.of (own := RJ24) true (by decide +kernel) rfl (show (_ : Nat) ≤ _ from Nat.le_of_ble_eq_true rfl) (fun _ => rfl) (fun V C => ?_)
  show V h 0 0 0 [(0, .ref a0), (1, .int i1)] []
  unfold w_J24_init at hw
  refine r_aload_n C rfl 0 rfl dJ24_init_0 ?_
  refine r_callI (rest := []) (As := []) C sg_J23_init rfl q907 q908 q104 q909 rfl (Nat.le_of_ble_eq_true rfl) dJ24_init_1 rfl (Nat.le_refl _) (Nat.le_refl _) (c_J23_init G l a0 h _ hw) (k_V (fun h2 hw => ?_))
  refine r_aload_n C rfl 0 rfl dJ24_init_4 (r_iload_n C rfl 1 rfl dJ24_init_5 ?_)
  refine r_pf (k := 0) (v := .int i1) C kJ24 (by decide) (Or.inl q911) (Or.inl rfl) (Or.inr ⟨rfl, rfl, q911⟩) rfl rfl dJ24_init_6 hw (fun h3 hw => ?_)
  exact r_return C dJ24_init_9 (Nat.le_refl _) (Nat.le_refl _) ⟨rfl, hw⟩
def w_J24_bitCount (i0 : Int32) (h : Hp) (Q : Int32 → Hp → Prop) : Prop :=
  Q ((((((((i0 - (((i0.toUInt32 >>> ((1 : Int32).toUInt32 &&& Int32.toUInt32 31)).toInt32) &&& (1431655765 : Int32))) &&& (858993459 : Int32)) + ((((i0 - (((i0.toUInt32 >>> ((1 : Int32).toUInt32 &&& Int32.toUInt32 31)).toInt32) &&& (1431655765 : Int32))).toUInt32 >>> ((2 : Int32).toUInt32 &&& Int32.toUInt32 31)).toInt32) &&& (858993459 : Int32))) + (((((i0 - (((i0.toUInt32 >>> ((1 : Int32).toUInt32 &&& Int32.toUInt32 31)).toInt32) &&& (1431655765 : Int32))) &&& (858993459 : Int32)) + ((((i0 - (((i0.toUInt32 >>> ((1 : Int32).toUInt32 &&& Int32.toUInt32 31)).toInt32) &&& (1431655765 : Int32))).toUInt32 >>> ((2 : Int32).toUInt32 &&& Int32.toUInt32 31)).toInt32) &&& (858993459 : Int32))).toUInt32 >>> ((4 : Int32).toUInt32 &&& Int32.toUInt32 31)).toInt32)) &&& (252645135 : Int32)) + (((((((i0 - (((i0.toUInt32 >>> ((1 : Int32).toUInt32 &&& Int32.toUInt32 31)).toInt32) &&& (1431655765 : Int32))) &&& (858993459 : Int32)) + ((((i0 - (((i0.toUInt32 >>> ((1 : Int32).toUInt32 &&& Int32.toUInt32 31)).toInt32) &&& (1431655765 : Int32))).toUInt32 >>> ((2 : Int32).toUInt32 &&& Int32.toUInt32 31)).toInt32) &&& (858993459 : Int32))) + (((((i0 - (((i0.toUInt32 >>> ((1 : Int32).toUInt32 &&& Int32.toUInt32 31)).toInt32) &&& (1431655765 : Int32))) &&& (858993459 : Int32)) + ((((i0 - (((i0.toUInt32 >>> ((1 : Int32).toUInt32 &&& Int32.toUInt32 31)).toInt32) &&& (1431655765 : Int32))).toUInt32 >>> ((2 : Int32).toUInt32 &&& Int32.toUInt32 31)).toInt32) &&& (858993459 : Int32))).toUInt32 >>> ((4 : Int32).toUInt32 &&& Int32.toUInt32 31)).toInt32)) &&& (252645135 : Int32)).toUInt32 >>> ((8 : Int32).toUInt32 &&& Int32.toUInt32 31)).toInt32)) + ((((((((i0 - (((i0.toUInt32 >>> ((1 : Int32).toUInt32 &&& Int32.toUInt32 31)).toInt32) &&& (1431655765 : Int32))) &&& (858993459 : Int32)) + ((((i0 - (((i0.toUInt32 >>> ((1 : Int32).toUInt32 &&& Int32.toUInt32 31)).toInt32) &&& (1431655765 : Int32))).toUInt32 >>> ((2 : Int32).toUInt32 &&& Int32.toUInt32 31)).toInt32) &&& (858993459 : Int32))) + (((((i0 - (((i0.toUInt32 >>> ((1 : Int32).toUInt32 &&& Int32.toUInt32 31)).toInt32) &&& (1431655765 : Int32))) &&& (858993459 : Int32)) + ((((i0 - (((i0.toUInt32 >>> ((1 : Int32).toUInt32 &&& Int32.toUInt32 31)).toInt32) &&& (1431655765 : Int32))).toUInt32 >>> ((2 : Int32).toUInt32 &&& Int32.toUInt32 31)).toInt32) &&& (858993459 : Int32))).toUInt32 >>> ((4 : Int32).toUInt32 &&& Int32.toUInt32 31)).toInt32)) &&& (252645135 : Int32)) + (((((((i0 - (((i0.toUInt32 >>> ((1 : Int32).toUInt32 &&& Int32.toUInt32 31)).toInt32) &&& (1431655765 : Int32))) &&& (858993459 : Int32)) + ((((i0 - (((i0.toUInt32 >>> ((1 : Int32).toUInt32 &&& Int32.toUInt32 31)).toInt32) &&& (1431655765 : Int32))).toUInt32 >>> ((2 : Int32).toUInt32 &&& Int32.toUInt32 31)).toInt32) &&& (858993459 : Int32))) + (((((i0 - (((i0.toUInt32 >>> ((1 : Int32).toUInt32 &&& Int32.toUInt32 31)).toInt32) &&& (1431655765 : Int32))) &&& (858993459 : Int32)) + ((((i0 - (((i0.toUInt32 >>> ((1 : Int32).toUInt32 &&& Int32.toUInt32 31)).toInt32) &&& (1431655765 : Int32))).toUInt32 >>> ((2 : Int32).toUInt32 &&& Int32.toUInt32 31)).toInt32) &&& (858993459 : Int32))).toUInt32 >>> ((4 : Int32).toUInt32 &&& Int32.toUInt32 31)).toInt32)) &&& (252645135 : Int32)).toUInt32 >>> ((8 : Int32).toUInt32 &&& Int32.toUInt32 31)).toInt32)).toUInt32 >>> ((16 : Int32).toUInt32 &&& Int32.toUInt32 31)).toInt32)) &&& (63 : Int32)) h
theorem sg_J24_bitCount : ySg yJ24_bitCount 1 = true := by decide +kernel
theorem c_J24_bitCount (G : gT) (l : Launch) (i0 : Int32) (h : Hp) (Q : Int32 → Hp → Prop) (hw : w_J24_bitCount i0 h Q) : Ct G l yJ24_bitCount (ws_ yJ24_bitCount cJ24_bitCount 1 (some .int)) 1 12 0 0 [.int i0] h (pI Q) := by
  refine Ct.of (own := RJ24) false (by decide +kernel) rfl (show (_ : Nat) ≤ _ from Nat.le_of_ble_eq_true rfl) (fun z => by cases z) (fun V C => ?_)
  show V h 0 0 0 [(0, .int i0)] []
  unfold w_J24_bitCount at hw
  refine r_iload_n C rfl 0 rfl dJ24_bitCount_0 (r_iload_n C rfl 0 rfl dJ24_bitCount_1 (r_iconst (v := (1 : Int32)) C (by decide) dJ24_bitCount_2 (r_iushr C dJ24_bitCount_3 (r_ldc_w (v := (1431655765 : Int32)) C q1538 dJ24_bitCount_4 (r_iand C dJ24_bitCount_7 ?_)))))
  refine r_isub C dJ24_bitCount_8 (r_istore_n (L' := [(0, .int (i0 - (((i0.toUInt32 >>> ((1 : Int32).toUInt32 &&& Int32.toUInt32 31)).toInt32) &&& (1431655765 : Int32))))]) C rfl (by decide) rfl dJ24_bitCount_9 (r_iload_n C rfl 0 rfl dJ24_bitCount_10 (r_ldc_w (v := (858993459 : Int32)) C q1539 dJ24_bitCount_11 (r_iand C dJ24_bitCount_14 (r_iload_n C rfl 0 rfl dJ24_bitCount_15 ?_)))))
  refine r_iconst (v := (2 : Int32)) C (by decide) dJ24_bitCount_16 (r_iushr C dJ24_bitCount_17 (r_ldc_w (v := (858993459 : Int32)) C q1539 dJ24_bitCount_18 (r_iand C dJ24_bitCount_21 (r_iadd C dJ24_bitCount_22 (r_istore_n (L' := [(0, .int (((i0 - (((i0.toUInt32 >>> ((1 : Int32).toUInt32 &&& Int32.toUInt32 31)).toInt32) &&& (1431655765 : Int32))) &&& (858993459 : Int32)) + ((((i0 - (((i0.toUInt32 >>> ((1 : Int32).toUInt32 &&& Int32.toUInt32 31)).toInt32) &&& (1431655765 : Int32))).toUInt32 >>> ((2 : Int32).toUInt32 &&& Int32.toUInt32 31)).toInt32) &&& (858993459 : Int32))))]) C rfl (by decide) rfl dJ24_bitCount_23 ?_)))))
  refine r_iload_n C rfl 0 rfl dJ24_bitCount_24 (r_iload_n C rfl 0 rfl dJ24_bitCount_25 (r_iconst (v := (4 : Int32)) C (by decide) dJ24_bitCount_26 (r_iushr C dJ24_bitCount_27 (r_iadd C dJ24_bitCount_28 (r_ldc_w (v := (252645135 : Int32)) C q1540 dJ24_bitCount_29 ?_)))))
  refine r_iand C dJ24_bitCount_32 (r_istore_n (L' := [(0, .int (((((i0 - (((i0.toUInt32 >>> ((1 : Int32).toUInt32 &&& Int32.toUInt32 31)).toInt32) &&& (1431655765 : Int32))) &&& (858993459 : Int32)) + ((((i0 - (((i0.toUInt32 >>> ((1 : Int32).toUInt32 &&& Int32.toUInt32 31)).toInt32) &&& (1431655765 : Int32))).toUInt32 >>> ((2 : Int32).toUInt32 &&& Int32.toUInt32 31)).toInt32) &&& (858993459 : Int32))) + (((((i0 - (((i0.toUInt32 >>> ((1 : Int32).toUInt32 &&& Int32.toUInt32 31)).toInt32) &&& (1431655765 : Int32))) &&& (858993459 : Int32)) + ((((i0 - (((i0.toUInt32 >>> ((1 : Int32).toUInt32 &&& Int32.toUInt32 31)).toInt32) &&& (1431655765 : Int32))).toUInt32 >>> ((2 : Int32).toUInt32 &&& Int32.toUInt32 31)).toInt32) &&& (858993459 : Int32))).toUInt32 >>> ((4 : Int32).toUInt32 &&& Int32.toUInt32 31)).toInt32)) &&& (252645135 : Int32)))]) C rfl (by decide) rfl dJ24_bitCount_33 (r_iload_n C rfl 0 rfl dJ24_bitCount_34 (r_iload_n C rfl 0 rfl dJ24_bitCount_35 (r_bipush (v := (8 : Int32)) C (by decide) dJ24_bitCount_36 (r_iushr C dJ24_bitCount_38 ?_)))))
  refine r_iadd C dJ24_bitCount_39 (r_istore_n (L' := [(0, .int ((((((i0 - (((i0.toUInt32 >>> ((1 : Int32).toUInt32 &&& Int32.toUInt32 31)).toInt32) &&& (1431655765 : Int32))) &&& (858993459 : Int32)) + ((((i0 - (((i0.toUInt32 >>> ((1 : Int32).toUInt32 &&& Int32.toUInt32 31)).toInt32) &&& (1431655765 : Int32))).toUInt32 >>> ((2 : Int32).toUInt32 &&& Int32.toUInt32 31)).toInt32) &&& (858993459 : Int32))) + (((((i0 - (((i0.toUInt32 >>> ((1 : Int32).toUInt32 &&& Int32.toUInt32 31)).toInt32) &&& (1431655765 : Int32))) &&& (858993459 : Int32)) + ((((i0 - (((i0.toUInt32 >>> ((1 : Int32).toUInt32 &&& Int32.toUInt32 31)).toInt32) &&& (1431655765 : Int32))).toUInt32 >>> ((2 : Int32).toUInt32 &&& Int32.toUInt32 31)).toInt32) &&& (858993459 : Int32))).toUInt32 >>> ((4 : Int32).toUInt32 &&& Int32.toUInt32 31)).toInt32)) &&& (252645135 : Int32)) + (((((((i0 - (((i0.toUInt32 >>> ((1 : Int32).toUInt32 &&& Int32.toUInt32 31)).toInt32) &&& (1431655765 : Int32))) &&& (858993459 : Int32)) + ((((i0 - (((i0.toUInt32 >>> ((1 : Int32).toUInt32 &&& Int32.toUInt32 31)).toInt32) &&& (1431655765 : Int32))).toUInt32 >>> ((2 : Int32).toUInt32 &&& Int32.toUInt32 31)).toInt32) &&& (858993459 : Int32))) + (((((i0 - (((i0.toUInt32 >>> ((1 : Int32).toUInt32 &&& Int32.toUInt32 31)).toInt32) &&& (1431655765 : Int32))) &&& (858993459 : Int32)) + ((((i0 - (((i0.toUInt32 >>> ((1 : Int32).toUInt32 &&& Int32.toUInt32 31)).toInt32) &&& (1431655765 : Int32))).toUInt32 >>> ((2 : Int32).toUInt32 &&& Int32.toUInt32 31)).toInt32) &&& (858993459 : Int32))).toUInt32 >>> ((4 : Int32).toUInt32 &&& Int32.toUInt32 31)).toInt32)) &&& (252645135 : Int32)).toUInt32 >>> ((8 : Int32).toUInt32 &&& Int32.toUInt32 31)).toInt32)))]) C rfl (by decide) rfl dJ24_bitCount_40 (r_iload_n C rfl 0 rfl dJ24_bitCount_41 (r_iload_n C rfl 0 rfl dJ24_bitCount_42 (r_bipush (v := (16 : Int32)) C (by decide) dJ24_bitCount_43 (r_iushr C dJ24_bitCount_45 ?_)))))
  refine r_iadd C dJ24_bitCount_46 (r_istore_n (L' := [(0, .int (((((((i0 - (((i0.toUInt32 >>> ((1 : Int32).toUInt32 &&& Int32.toUInt32 31)).toInt32) &&& (1431655765 : Int32))) &&& (858993459 : Int32)) + ((((i0 - (((i0.toUInt32 >>> ((1 : Int32).toUInt32 &&& Int32.toUInt32 31)).toInt32) &&& (1431655765 : Int32))).toUInt32 >>> ((2 : Int32).toUInt32 &&& Int32.toUInt32 31)).toInt32) &&& (858993459 : Int32))) + (((((i0 - (((i0.toUInt32 >>> ((1 : Int32).toUInt32 &&& Int32.toUInt32 31)).toInt32) &&& (1431655765 : Int32))) &&& (858993459 : Int32)) + ((((i0 - (((i0.toUInt32 >>> ((1 : Int32).toUInt32 &&& Int32.toUInt32 31)).toInt32) &&& (1431655765 : Int32))).toUInt32 >>> ((2 : Int32).toUInt32 &&& Int32.toUInt32 31)).toInt32) &&& (858993459 : Int32))).toUInt32 >>> ((4 : Int32).toUInt32 &&& Int32.toUInt32 31)).toInt32)) &&& (252645135 : Int32)) + (((((((i0 - (((i0.toUInt32 >>> ((1 : Int32).toUInt32 &&& Int32.toUInt32 31)).toInt32) &&& (1431655765 : Int32))) &&& (858993459 : Int32)) + ((((i0 - (((i0.toUInt32 >>> ((1 : Int32).toUInt32 &&& Int32.toUInt32 31)).toInt32) &&& (1431655765 : Int32))).toUInt32 >>> ((2 : Int32).toUInt32 &&& Int32.toUInt32 31)).toInt32) &&& (858993459 : Int32))) + (((((i0 - (((i0.toUInt32 >>> ((1 : Int32).toUInt32 &&& Int32.toUInt32 31)).toInt32) &&& (1431655765 : Int32))) &&& (858993459 : Int32)) + ((((i0 - (((i0.toUInt32 >>> ((1 : Int32).toUInt32 &&& Int32.toUInt32 31)).toInt32) &&& (1431655765 : Int32))).toUInt32 >>> ((2 : Int32).toUInt32 &&& Int32.toUInt32 31)).toInt32) &&& (858993459 : Int32))).toUInt32 >>> ((4 : Int32).toUInt32 &&& Int32.toUInt32 31)).toInt32)) &&& (252645135 : Int32)).toUInt32 >>> ((8 : Int32).toUInt32 &&& Int32.toUInt32 31)).toInt32)) + ((((((((i0 - (((i0.toUInt32 >>> ((1 : Int32).toUInt32 &&& Int32.toUInt32 31)).toInt32) &&& (1431655765 : Int32))) &&& (858993459 : Int32)) + ((((i0 - (((i0.toUInt32 >>> ((1 : Int32).toUInt32 &&& Int32.toUInt32 31)).toInt32) &&& (1431655765 : Int32))).toUInt32 >>> ((2 : Int32).toUInt32 &&& Int32.toUInt32 31)).toInt32) &&& (858993459 : Int32))) + (((((i0 - (((i0.toUInt32 >>> ((1 : Int32).toUInt32 &&& Int32.toUInt32 31)).toInt32) &&& (1431655765 : Int32))) &&& (858993459 : Int32)) + ((((i0 - (((i0.toUInt32 >>> ((1 : Int32).toUInt32 &&& Int32.toUInt32 31)).toInt32) &&& (1431655765 : Int32))).toUInt32 >>> ((2 : Int32).toUInt32 &&& Int32.toUInt32 31)).toInt32) &&& (858993459 : Int32))).toUInt32 >>> ((4 : Int32).toUInt32 &&& Int32.toUInt32 31)).toInt32)) &&& (252645135 : Int32)) + (((((((i0 - (((i0.toUInt32 >>> ((1 : Int32).toUInt32 &&& Int32.toUInt32 31)).toInt32) &&& (1431655765 : Int32))) &&& (858993459 : Int32)) + ((((i0 - (((i0.toUInt32 >>> ((1 : Int32).toUInt32 &&& Int32.toUInt32 31)).toInt32) &&& (1431655765 : Int32))).toUInt32 >>> ((2 : Int32).toUInt32 &&& Int32.toUInt32 31)).toInt32) &&& (858993459 : Int32))) + (((((i0 - (((i0.toUInt32 >>> ((1 : Int32).toUInt32 &&& Int32.toUInt32 31)).toInt32) &&& (1431655765 : Int32))) &&& (858993459 : Int32)) + ((((i0 - (((i0.toUInt32 >>> ((1 : Int32).toUInt32 &&& Int32.toUInt32 31)).toInt32) &&& (1431655765 : Int32))).toUInt32 >>> ((2 : Int32).toUInt32 &&& Int32.toUInt32 31)).toInt32) &&& (858993459 : Int32))).toUInt32 >>> ((4 : Int32).toUInt32 &&& Int32.toUInt32 31)).toInt32)) &&& (252645135 : Int32)).toUInt32 >>> ((8 : Int32).toUInt32 &&& Int32.toUInt32 31)).toInt32)).toUInt32 >>> ((16 : Int32).toUInt32 &&& Int32.toUInt32 31)).toInt32)))]) C rfl (by decide) rfl dJ24_bitCount_47 (r_iload_n C rfl 0 rfl dJ24_bitCount_48 (r_bipush (v := (63 : Int32)) C (by decide) dJ24_bitCount_49 (r_iand C dJ24_bitCount_51 ?_))))
  exact r_ireturn C dJ24_bitCount_52 (Nat.le_refl _) (Nat.le_refl _) ⟨_, rfl, hw⟩
def w_J24_numberOfLeadingZeros (i0 : Int32) (h : Hp) (Q : Int32 → Hp → Prop) : Prop :=
  (0 < i0 → Q ((if (if (if (if i0 < (65536 : Int32) then i0 else (i0.toUInt32 >>> ((16 : Int32).toUInt32 &&& Int32.toUInt32 31)).toInt32) < (256 : Int32) then (if i0 < (65536 : Int32) then i0 else (i0.toUInt32 >>> ((16 : Int32).toUInt32 &&& Int32.toUInt32 31)).toInt32) else ((if i0 < (65536 : Int32) then i0 else (i0.toUInt32 >>> ((16 : Int32).toUInt32 &&& Int32.toUInt32 31)).toInt32).toUInt32 >>> ((8 : Int32).toUInt32 &&& Int32.toUInt32 31)).toInt32) < (16 : Int32) then (if (if i0 < (65536 : Int32) then i0 else (i0.toUInt32 >>> ((16 : Int32).toUInt32 &&& Int32.toUInt32 31)).toInt32) < (256 : Int32) then (if i0 < (65536 : Int32) then i0 else (i0.toUInt32 >>> ((16 : Int32).toUInt32 &&& Int32.toUInt32 31)).toInt32) else ((if i0 < (65536 : Int32) then i0 else (i0.toUInt32 >>> ((16 : Int32).toUInt32 &&& Int32.toUInt32 31)).toInt32).toUInt32 >>> ((8 : Int32).toUInt32 &&& Int32.toUInt32 31)).toInt32) else ((if (if i0 < (65536 : Int32) then i0 else (i0.toUInt32 >>> ((16 : Int32).toUInt32 &&& Int32.toUInt32 31)).toInt32) < (256 : Int32) then (if i0 < (65536 : Int32) then i0 else (i0.toUInt32 >>> ((16 : Int32).toUInt32 &&& Int32.toUInt32 31)).toInt32) else ((if i0 < (65536 : Int32) then i0 else (i0.toUInt32 >>> ((16 : Int32).toUInt32 &&& Int32.toUInt32 31)).toInt32).toUInt32 >>> ((8 : Int32).toUInt32 &&& Int32.toUInt32 31)).toInt32).toUInt32 >>> ((4 : Int32).toUInt32 &&& Int32.toUInt32 31)).toInt32) < (4 : Int32) then (if (if (if i0 < (65536 : Int32) then i0 else (i0.toUInt32 >>> ((16 : Int32).toUInt32 &&& Int32.toUInt32 31)).toInt32) < (256 : Int32) then (if i0 < (65536 : Int32) then i0 else (i0.toUInt32 >>> ((16 : Int32).toUInt32 &&& Int32.toUInt32 31)).toInt32) else ((if i0 < (65536 : Int32) then i0 else (i0.toUInt32 >>> ((16 : Int32).toUInt32 &&& Int32.toUInt32 31)).toInt32).toUInt32 >>> ((8 : Int32).toUInt32 &&& Int32.toUInt32 31)).toInt32) < (16 : Int32) then (if (if i0 < (65536 : Int32) then i0 else (i0.toUInt32 >>> ((16 : Int32).toUInt32 &&& Int32.toUInt32 31)).toInt32) < (256 : Int32) then (if i0 < (65536 : Int32) then (31 : Int32) else (31 : Int32) + (-16 : Int32)) else (if i0 < (65536 : Int32) then (31 : Int32) else (31 : Int32) + (-16 : Int32)) + (-8 : Int32)) else (if (if i0 < (65536 : Int32) then i0 else (i0.toUInt32 >>> ((16 : Int32).toUInt32 &&& Int32.toUInt32 31)).toInt32) < (256 : Int32) then (if i0 < (65536 : Int32) then (31 : Int32) else (31 : Int32) + (-16 : Int32)) else (if i0 < (65536 : Int32) then (31 : Int32) else (31 : Int32) + (-16 : Int32)) + (-8 : Int32)) + (-4 : Int32)) else (if (if (if i0 < (65536 : Int32) then i0 else (i0.toUInt32 >>> ((16 : Int32).toUInt32 &&& Int32.toUInt32 31)).toInt32) < (256 : Int32) then (if i0 < (65536 : Int32) then i0 else (i0.toUInt32 >>> ((16 : Int32).toUInt32 &&& Int32.toUInt32 31)).toInt32) else ((if i0 < (65536 : Int32) then i0 else (i0.toUInt32 >>> ((16 : Int32).toUInt32 &&& Int32.toUInt32 31)).toInt32).toUInt32 >>> ((8 : Int32).toUInt32 &&& Int32.toUInt32 31)).toInt32) < (16 : Int32) then (if (if i0 < (65536 : Int32) then i0 else (i0.toUInt32 >>> ((16 : Int32).toUInt32 &&& Int32.toUInt32 31)).toInt32) < (256 : Int32) then (if i0 < (65536 : Int32) then (31 : Int32) else (31 : Int32) + (-16 : Int32)) else (if i0 < (65536 : Int32) then (31 : Int32) else (31 : Int32) + (-16 : Int32)) + (-8 : Int32)) else (if (if i0 < (65536 : Int32) then i0 else (i0.toUInt32 >>> ((16 : Int32).toUInt32 &&& Int32.toUInt32 31)).toInt32) < (256 : Int32) then (if i0 < (65536 : Int32) then (31 : Int32) else (31 : Int32) + (-16 : Int32)) else (if i0 < (65536 : Int32) then (31 : Int32) else (31 : Int32) + (-16 : Int32)) + (-8 : Int32)) + (-4 : Int32)) + (-2 : Int32)) - (((if (if (if (if i0 < (65536 : Int32) then i0 else (i0.toUInt32 >>> ((16 : Int32).toUInt32 &&& Int32.toUInt32 31)).toInt32) < (256 : Int32) then (if i0 < (65536 : Int32) then i0 else (i0.toUInt32 >>> ((16 : Int32).toUInt32 &&& Int32.toUInt32 31)).toInt32) else ((if i0 < (65536 : Int32) then i0 else (i0.toUInt32 >>> ((16 : Int32).toUInt32 &&& Int32.toUInt32 31)).toInt32).toUInt32 >>> ((8 : Int32).toUInt32 &&& Int32.toUInt32 31)).toInt32) < (16 : Int32) then (if (if i0 < (65536 : Int32) then i0 else (i0.toUInt32 >>> ((16 : Int32).toUInt32 &&& Int32.toUInt32 31)).toInt32) < (256 : Int32) then (if i0 < (65536 : Int32) then i0 else (i0.toUInt32 >>> ((16 : Int32).toUInt32 &&& Int32.toUInt32 31)).toInt32) else ((if i0 < (65536 : Int32) then i0 else (i0.toUInt32 >>> ((16 : Int32).toUInt32 &&& Int32.toUInt32 31)).toInt32).toUInt32 >>> ((8 : Int32).toUInt32 &&& Int32.toUInt32 31)).toInt32) else ((if (if i0 < (65536 : Int32) then i0 else (i0.toUInt32 >>> ((16 : Int32).toUInt32 &&& Int32.toUInt32 31)).toInt32) < (256 : Int32) then (if i0 < (65536 : Int32) then i0 else (i0.toUInt32 >>> ((16 : Int32).toUInt32 &&& Int32.toUInt32 31)).toInt32) else ((if i0 < (65536 : Int32) then i0 else (i0.toUInt32 >>> ((16 : Int32).toUInt32 &&& Int32.toUInt32 31)).toInt32).toUInt32 >>> ((8 : Int32).toUInt32 &&& Int32.toUInt32 31)).toInt32).toUInt32 >>> ((4 : Int32).toUInt32 &&& Int32.toUInt32 31)).toInt32) < (4 : Int32) then (if (if (if i0 < (65536 : Int32) then i0 else (i0.toUInt32 >>> ((16 : Int32).toUInt32 &&& Int32.toUInt32 31)).toInt32) < (256 : Int32) then (if i0 < (65536 : Int32) then i0 else (i0.toUInt32 >>> ((16 : Int32).toUInt32 &&& Int32.toUInt32 31)).toInt32) else ((if i0 < (65536 : Int32) then i0 else (i0.toUInt32 >>> ((16 : Int32).toUInt32 &&& Int32.toUInt32 31)).toInt32).toUInt32 >>> ((8 : Int32).toUInt32 &&& Int32.toUInt32 31)).toInt32) < (16 : Int32) then (if (if i0 < (65536 : Int32) then i0 else (i0.toUInt32 >>> ((16 : Int32).toUInt32 &&& Int32.toUInt32 31)).toInt32) < (256 : Int32) then (if i0 < (65536 : Int32) then i0 else (i0.toUInt32 >>> ((16 : Int32).toUInt32 &&& Int32.toUInt32 31)).toInt32) else ((if i0 < (65536 : Int32) then i0 else (i0.toUInt32 >>> ((16 : Int32).toUInt32 &&& Int32.toUInt32 31)).toInt32).toUInt32 >>> ((8 : Int32).toUInt32 &&& Int32.toUInt32 31)).toInt32) else ((if (if i0 < (65536 : Int32) then i0 else (i0.toUInt32 >>> ((16 : Int32).toUInt32 &&& Int32.toUInt32 31)).toInt32) < (256 : Int32) then (if i0 < (65536 : Int32) then i0 else (i0.toUInt32 >>> ((16 : Int32).toUInt32 &&& Int32.toUInt32 31)).toInt32) else ((if i0 < (65536 : Int32) then i0 else (i0.toUInt32 >>> ((16 : Int32).toUInt32 &&& Int32.toUInt32 31)).toInt32).toUInt32 >>> ((8 : Int32).toUInt32 &&& Int32.toUInt32 31)).toInt32).toUInt32 >>> ((4 : Int32).toUInt32 &&& Int32.toUInt32 31)).toInt32) else ((if (if (if i0 < (65536 : Int32) then i0 else (i0.toUInt32 >>> ((16 : Int32).toUInt32 &&& Int32.toUInt32 31)).toInt32) < (256 : Int32) then (if i0 < (65536 : Int32) then i0 else (i0.toUInt32 >>> ((16 : Int32).toUInt32 &&& Int32.toUInt32 31)).toInt32) else ((if i0 < (65536 : Int32) then i0 else (i0.toUInt32 >>> ((16 : Int32).toUInt32 &&& Int32.toUInt32 31)).toInt32).toUInt32 >>> ((8 : Int32).toUInt32 &&& Int32.toUInt32 31)).toInt32) < (16 : Int32) then (if (if i0 < (65536 : Int32) then i0 else (i0.toUInt32 >>> ((16 : Int32).toUInt32 &&& Int32.toUInt32 31)).toInt32) < (256 : Int32) then (if i0 < (65536 : Int32) then i0 else (i0.toUInt32 >>> ((16 : Int32).toUInt32 &&& Int32.toUInt32 31)).toInt32) else ((if i0 < (65536 : Int32) then i0 else (i0.toUInt32 >>> ((16 : Int32).toUInt32 &&& Int32.toUInt32 31)).toInt32).toUInt32 >>> ((8 : Int32).toUInt32 &&& Int32.toUInt32 31)).toInt32) else ((if (if i0 < (65536 : Int32) then i0 else (i0.toUInt32 >>> ((16 : Int32).toUInt32 &&& Int32.toUInt32 31)).toInt32) < (256 : Int32) then (if i0 < (65536 : Int32) then i0 else (i0.toUInt32 >>> ((16 : Int32).toUInt32 &&& Int32.toUInt32 31)).toInt32) else ((if i0 < (65536 : Int32) then i0 else (i0.toUInt32 >>> ((16 : Int32).toUInt32 &&& Int32.toUInt32 31)).toInt32).toUInt32 >>> ((8 : Int32).toUInt32 &&& Int32.toUInt32 31)).toInt32).toUInt32 >>> ((4 : Int32).toUInt32 &&& Int32.toUInt32 31)).toInt32).toUInt32 >>> ((2 : Int32).toUInt32 &&& Int32.toUInt32 31)).toInt32).toUInt32 >>> ((1 : Int32).toUInt32 &&& Int32.toUInt32 31)).toInt32)) h) ∧ (¬ 0 < i0 → Q (if ¬ i0 = 0 then (0 : Int32) else (32 : Int32)) h)
theorem sg_J24_numberOfLeadingZeros : ySg yJ24_numberOfLeadingZeros 1 = true := by decide +kernel
theorem c_J24_numberOfLeadingZeros (G : gT) (l : Launch) (i0 : Int32) (h : Hp) (Q : Int32 → Hp → Prop) (hw : w_J24_numberOfLeadingZeros i0 h Q) : Ct G l yJ24_numberOfLeadingZeros (ws_ yJ24_numberOfLeadingZeros cJ24_numberOfLeadingZeros 2 (some .int)) 1 12 0 0 [.int i0] h (pI Q) := by
  refine Ct.of (own := RJ24) false (by decide +kernel) rfl (show (_ : Nat) ≤ _ from Nat.le_of_ble_eq_true rfl) (fun z => by cases z) (fun V C => ?_)
  show V h 0 0 0 [(0, .int i0)] []
  unfold w_J24_numberOfLeadingZeros at hw
  refine r_iload_n C rfl 0 rfl dJ24_numberOfLeadingZeros_0 ?_
  refine r_if_gt (tgt := 15) C (by decide) dJ24_numberOfLeadingZeros_1 (fun hc1 => ?_) (fun hc1 => ?_)
  · have hw := hw.1 hc1
    refine r_bipush (v := (31 : Int32)) C (by decide) dJ24_numberOfLeadingZeros_15 (r_istore_n (L' := [(1, .int (31 : Int32)), (0, .int i0)]) C rfl (by decide) rfl dJ24_numberOfLeadingZeros_17 (r_iload_n C rfl 1 rfl dJ24_numberOfLeadingZeros_18 (r_ldc_w (v := (65536 : Int32)) C q1575 dJ24_numberOfLeadingZeros_19 ?_)))
    have hJ : V h 0 0 33 [(1, .int (if i0 < (65536 : Int32) then (31 : Int32) else (31 : Int32) + (-16 : Int32))), (0, .int (if i0 < (65536 : Int32) then i0 else (i0.toUInt32 >>> ((16 : Int32).toUInt32 &&& Int32.toUInt32 31)).toInt32))] [] := by
      refine r_iload_n C rfl 1 rfl dJ24_numberOfLeadingZeros_33 (r_sipush (v := (256 : Int32)) C (by decide) dJ24_numberOfLeadingZeros_34 ?_)
      have hJ : V h 0 0 48 [(1, .int (if (if i0 < (65536 : Int32) then i0 else (i0.toUInt32 >>> ((16 : Int32).toUInt32 &&& Int32.toUInt32 31)).toInt32) < (256 : Int32) then (if i0 < (65536 : Int32) then (31 : Int32) else (31 : Int32) + (-16 : Int32)) else (if i0 < (65536 : Int32) then (31 : Int32) else (31 : Int32) + (-16 : Int32)) + (-8 : Int32))), (0, .int (if (if i0 < (65536 : Int32) then i0 else (i0.toUInt32 >>> ((16 : Int32).toUInt32 &&& Int32.toUInt32 31)).toInt32) < (256 : Int32) then (if i0 < (65536 : Int32) then i0 else (i0.toUInt32 >>> ((16 : Int32).toUInt32 &&& Int32.toUInt32 31)).toInt32) else ((if i0 < (65536 : Int32) then i0 else (i0.toUInt32 >>> ((16 : Int32).toUInt32 &&& Int32.toUInt32 31)).toInt32).toUInt32 >>> ((8 : Int32).toUInt32 &&& Int32.toUInt32 31)).toInt32))] [] := by
        refine r_iload_n C rfl 1 rfl dJ24_numberOfLeadingZeros_48 (r_bipush (v := (16 : Int32)) C (by decide) dJ24_numberOfLeadingZeros_49 ?_)
        have hJ : V h 0 0 61 [(1, .int (if (if (if i0 < (65536 : Int32) then i0 else (i0.toUInt32 >>> ((16 : Int32).toUInt32 &&& Int32.toUInt32 31)).toInt32) < (256 : Int32) then (if i0 < (65536 : Int32) then i0 else (i0.toUInt32 >>> ((16 : Int32).toUInt32 &&& Int32.toUInt32 31)).toInt32) else ((if i0 < (65536 : Int32) then i0 else (i0.toUInt32 >>> ((16 : Int32).toUInt32 &&& Int32.toUInt32 31)).toInt32).toUInt32 >>> ((8 : Int32).toUInt32 &&& Int32.toUInt32 31)).toInt32) < (16 : Int32) then (if (if i0 < (65536 : Int32) then i0 else (i0.toUInt32 >>> ((16 : Int32).toUInt32 &&& Int32.toUInt32 31)).toInt32) < (256 : Int32) then (if i0 < (65536 : Int32) then (31 : Int32) else (31 : Int32) + (-16 : Int32)) else (if i0 < (65536 : Int32) then (31 : Int32) else (31 : Int32) + (-16 : Int32)) + (-8 : Int32)) else (if (if i0 < (65536 : Int32) then i0 else (i0.toUInt32 >>> ((16 : Int32).toUInt32 &&& Int32.toUInt32 31)).toInt32) < (256 : Int32) then (if i0 < (65536 : Int32) then (31 : Int32) else (31 : Int32) + (-16 : Int32)) else (if i0 < (65536 : Int32) then (31 : Int32) else (31 : Int32) + (-16 : Int32)) + (-8 : Int32)) + (-4 : Int32))), (0, .int (if (if (if i0 < (65536 : Int32) then i0 else (i0.toUInt32 >>> ((16 : Int32).toUInt32 &&& Int32.toUInt32 31)).toInt32) < (256 : Int32) then (if i0 < (65536 : Int32) then i0 else (i0.toUInt32 >>> ((16 : Int32).toUInt32 &&& Int32.toUInt32 31)).toInt32) else ((if i0 < (65536 : Int32) then i0 else (i0.toUInt32 >>> ((16 : Int32).toUInt32 &&& Int32.toUInt32 31)).toInt32).toUInt32 >>> ((8 : Int32).toUInt32 &&& Int32.toUInt32 31)).toInt32) < (16 : Int32) then (if (if i0 < (65536 : Int32) then i0 else (i0.toUInt32 >>> ((16 : Int32).toUInt32 &&& Int32.toUInt32 31)).toInt32) < (256 : Int32) then (if i0 < (65536 : Int32) then i0 else (i0.toUInt32 >>> ((16 : Int32).toUInt32 &&& Int32.toUInt32 31)).toInt32) else ((if i0 < (65536 : Int32) then i0 else (i0.toUInt32 >>> ((16 : Int32).toUInt32 &&& Int32.toUInt32 31)).toInt32).toUInt32 >>> ((8 : Int32).toUInt32 &&& Int32.toUInt32 31)).toInt32) else ((if (if i0 < (65536 : Int32) then i0 else (i0.toUInt32 >>> ((16 : Int32).toUInt32 &&& Int32.toUInt32 31)).toInt32) < (256 : Int32) then (if i0 < (65536 : Int32) then i0 else (i0.toUInt32 >>> ((16 : Int32).toUInt32 &&& Int32.toUInt32 31)).toInt32) else ((if i0 < (65536 : Int32) then i0 else (i0.toUInt32 >>> ((16 : Int32).toUInt32 &&& Int32.toUInt32 31)).toInt32).toUInt32 >>> ((8 : Int32).toUInt32 &&& Int32.toUInt32 31)).toInt32).toUInt32 >>> ((4 : Int32).toUInt32 &&& Int32.toUInt32 31)).toInt32))] [] := by
          refine r_iload_n C rfl 1 rfl dJ24_numberOfLeadingZeros_61 (r_iconst (v := (4 : Int32)) C (by decide) dJ24_numberOfLeadingZeros_62 ?_)
          have hJ : V h 0 0 73 [(1, .int (if (if (if (if i0 < (65536 : Int32) then i0 else (i0.toUInt32 >>> ((16 : Int32).toUInt32 &&& Int32.toUInt32 31)).toInt32) < (256 : Int32) then (if i0 < (65536 : Int32) then i0 else (i0.toUInt32 >>> ((16 : Int32).toUInt32 &&& Int32.toUInt32 31)).toInt32) else ((if i0 < (65536 : Int32) then i0 else (i0.toUInt32 >>> ((16 : Int32).toUInt32 &&& Int32.toUInt32 31)).toInt32).toUInt32 >>> ((8 : Int32).toUInt32 &&& Int32.toUInt32 31)).toInt32) < (16 : Int32) then (if (if i0 < (65536 : Int32) then i0 else (i0.toUInt32 >>> ((16 : Int32).toUInt32 &&& Int32.toUInt32 31)).toInt32) < (256 : Int32) then (if i0 < (65536 : Int32) then i0 else (i0.toUInt32 >>> ((16 : Int32).toUInt32 &&& Int32.toUInt32 31)).toInt32) else ((if i0 < (65536 : Int32) then i0 else (i0.toUInt32 >>> ((16 : Int32).toUInt32 &&& Int32.toUInt32 31)).toInt32).toUInt32 >>> ((8 : Int32).toUInt32 &&& Int32.toUInt32 31)).toInt32) else ((if (if i0 < (65536 : Int32) then i0 else (i0.toUInt32 >>> ((16 : Int32).toUInt32 &&& Int32.toUInt32 31)).toInt32) < (256 : Int32) then (if i0 < (65536 : Int32) then i0 else (i0.toUInt32 >>> ((16 : Int32).toUInt32 &&& Int32.toUInt32 31)).toInt32) else ((if i0 < (65536 : Int32) then i0 else (i0.toUInt32 >>> ((16 : Int32).toUInt32 &&& Int32.toUInt32 31)).toInt32).toUInt32 >>> ((8 : Int32).toUInt32 &&& Int32.toUInt32 31)).toInt32).toUInt32 >>> ((4 : Int32).toUInt32 &&& Int32.toUInt32 31)).toInt32) < (4 : Int32) then (if (if (if i0 < (65536 : Int32) then i0 else (i0.toUInt32 >>> ((16 : Int32).toUInt32 &&& Int32.toUInt32 31)).toInt32) < (256 : Int32) then (if i0 < (65536 : Int32) then i0 else (i0.toUInt32 >>> ((16 : Int32).toUInt32 &&& Int32.toUInt32 31)).toInt32) else ((if i0 < (65536 : Int32) then i0 else (i0.toUInt32 >>> ((16 : Int32).toUInt32 &&& Int32.toUInt32 31)).toInt32).toUInt32 >>> ((8 : Int32).toUInt32 &&& Int32.toUInt32 31)).toInt32) < (16 : Int32) then (if (if i0 < (65536 : Int32) then i0 else (i0.toUInt32 >>> ((16 : Int32).toUInt32 &&& Int32.toUInt32 31)).toInt32) < (256 : Int32) then (if i0 < (65536 : Int32) then (31 : Int32) else (31 : Int32) + (-16 : Int32)) else (if i0 < (65536 : Int32) then (31 : Int32) else (31 : Int32) + (-16 : Int32)) + (-8 : Int32)) else (if (if i0 < (65536 : Int32) then i0 else (i0.toUInt32 >>> ((16 : Int32).toUInt32 &&& Int32.toUInt32 31)).toInt32) < (256 : Int32) then (if i0 < (65536 : Int32) then (31 : Int32) else (31 : Int32) + (-16 : Int32)) else (if i0 < (65536 : Int32) then (31 : Int32) else (31 : Int32) + (-16 : Int32)) + (-8 : Int32)) + (-4 : Int32)) else (if (if (if i0 < (65536 : Int32) then i0 else (i0.toUInt32 >>> ((16 : Int32).toUInt32 &&& Int32.toUInt32 31)).toInt32) < (256 : Int32) then (if i0 < (65536 : Int32) then i0 else (i0.toUInt32 >>> ((16 : Int32).toUInt32 &&& Int32.toUInt32 31)).toInt32) else ((if i0 < (65536 : Int32) then i0 else (i0.toUInt32 >>> ((16 : Int32).toUInt32 &&& Int32.toUInt32 31)).toInt32).toUInt32 >>> ((8 : Int32).toUInt32 &&& Int32.toUInt32 31)).toInt32) < (16 : Int32) then (if (if i0 < (65536 : Int32) then i0 else (i0.toUInt32 >>> ((16 : Int32).toUInt32 &&& Int32.toUInt32 31)).toInt32) < (256 : Int32) then (if i0 < (65536 : Int32) then (31 : Int32) else (31 : Int32) + (-16 : Int32)) else (if i0 < (65536 : Int32) then (31 : Int32) else (31 : Int32) + (-16 : Int32)) + (-8 : Int32)) else (if (if i0 < (65536 : Int32) then i0 else (i0.toUInt32 >>> ((16 : Int32).toUInt32 &&& Int32.toUInt32 31)).toInt32) < (256 : Int32) then (if i0 < (65536 : Int32) then (31 : Int32) else (31 : Int32) + (-16 : Int32)) else (if i0 < (65536 : Int32) then (31 : Int32) else (31 : Int32) + (-16 : Int32)) + (-8 : Int32)) + (-4 : Int32)) + (-2 : Int32))), (0, .int (if (if (if (if i0 < (65536 : Int32) then i0 else (i0.toUInt32 >>> ((16 : Int32).toUInt32 &&& Int32.toUInt32 31)).toInt32) < (256 : Int32) then (if i0 < (65536 : Int32) then i0 else (i0.toUInt32 >>> ((16 : Int32).toUInt32 &&& Int32.toUInt32 31)).toInt32) else ((if i0 < (65536 : Int32) then i0 else (i0.toUInt32 >>> ((16 : Int32).toUInt32 &&& Int32.toUInt32 31)).toInt32).toUInt32 >>> ((8 : Int32).toUInt32 &&& Int32.toUInt32 31)).toInt32) < (16 : Int32) then (if (if i0 < (65536 : Int32) then i0 else (i0.toUInt32 >>> ((16 : Int32).toUInt32 &&& Int32.toUInt32 31)).toInt32) < (256 : Int32) then (if i0 < (65536 : Int32) then i0 else (i0.toUInt32 >>> ((16 : Int32).toUInt32 &&& Int32.toUInt32 31)).toInt32) else ((if i0 < (65536 : Int32) then i0 else (i0.toUInt32 >>> ((16 : Int32).toUInt32 &&& Int32.toUInt32 31)).toInt32).toUInt32 >>> ((8 : Int32).toUInt32 &&& Int32.toUInt32 31)).toInt32) else ((if (if i0 < (65536 : Int32) then i0 else (i0.toUInt32 >>> ((16 : Int32).toUInt32 &&& Int32.toUInt32 31)).toInt32) < (256 : Int32) then (if i0 < (65536 : Int32) then i0 else (i0.toUInt32 >>> ((16 : Int32).toUInt32 &&& Int32.toUInt32 31)).toInt32) else ((if i0 < (65536 : Int32) then i0 else (i0.toUInt32 >>> ((16 : Int32).toUInt32 &&& Int32.toUInt32 31)).toInt32).toUInt32 >>> ((8 : Int32).toUInt32 &&& Int32.toUInt32 31)).toInt32).toUInt32 >>> ((4 : Int32).toUInt32 &&& Int32.toUInt32 31)).toInt32) < (4 : Int32) then (if (if (if i0 < (65536 : Int32) then i0 else (i0.toUInt32 >>> ((16 : Int32).toUInt32 &&& Int32.toUInt32 31)).toInt32) < (256 : Int32) then (if i0 < (65536 : Int32) then i0 else (i0.toUInt32 >>> ((16 : Int32).toUInt32 &&& Int32.toUInt32 31)).toInt32) else ((if i0 < (65536 : Int32) then i0 else (i0.toUInt32 >>> ((16 : Int32).toUInt32 &&& Int32.toUInt32 31)).toInt32).toUInt32 >>> ((8 : Int32).toUInt32 &&& Int32.toUInt32 31)).toInt32) < (16 : Int32) then (if (if i0 < (65536 : Int32) then i0 else (i0.toUInt32 >>> ((16 : Int32).toUInt32 &&& Int32.toUInt32 31)).toInt32) < (256 : Int32) then (if i0 < (65536 : Int32) then i0 else (i0.toUInt32 >>> ((16 : Int32).toUInt32 &&& Int32.toUInt32 31)).toInt32) else ((if i0 < (65536 : Int32) then i0 else (i0.toUInt32 >>> ((16 : Int32).toUInt32 &&& Int32.toUInt32 31)).toInt32).toUInt32 >>> ((8 : Int32).toUInt32 &&& Int32.toUInt32 31)).toInt32) else ((if (if i0 < (65536 : Int32) then i0 else (i0.toUInt32 >>> ((16 : Int32).toUInt32 &&& Int32.toUInt32 31)).toInt32) < (256 : Int32) then (if i0 < (65536 : Int32) then i0 else (i0.toUInt32 >>> ((16 : Int32).toUInt32 &&& Int32.toUInt32 31)).toInt32) else ((if i0 < (65536 : Int32) then i0 else (i0.toUInt32 >>> ((16 : Int32).toUInt32 &&& Int32.toUInt32 31)).toInt32).toUInt32 >>> ((8 : Int32).toUInt32 &&& Int32.toUInt32 31)).toInt32).toUInt32 >>> ((4 : Int32).toUInt32 &&& Int32.toUInt32 31)).toInt32) else ((if (if (if i0 < (65536 : Int32) then i0 else (i0.toUInt32 >>> ((16 : Int32).toUInt32 &&& Int32.toUInt32 31)).toInt32) < (256 : Int32) then (if i0 < (65536 : Int32) then i0 else (i0.toUInt32 >>> ((16 : Int32).toUInt32 &&& Int32.toUInt32 31)).toInt32) else ((if i0 < (65536 : Int32) then i0 else (i0.toUInt32 >>> ((16 : Int32).toUInt32 &&& Int32.toUInt32 31)).toInt32).toUInt32 >>> ((8 : Int32).toUInt32 &&& Int32.toUInt32 31)).toInt32) < (16 : Int32) then (if (if i0 < (65536 : Int32) then i0 else (i0.toUInt32 >>> ((16 : Int32).toUInt32 &&& Int32.toUInt32 31)).toInt32) < (256 : Int32) then (if i0 < (65536 : Int32) then i0 else (i0.toUInt32 >>> ((16 : Int32).toUInt32 &&& Int32.toUInt32 31)).toInt32) else ((if i0 < (65536 : Int32) then i0 else (i0.toUInt32 >>> ((16 : Int32).toUInt32 &&& Int32.toUInt32 31)).toInt32).toUInt32 >>> ((8 : Int32).toUInt32 &&& Int32.toUInt32 31)).toInt32) else ((if (if i0 < (65536 : Int32) then i0 else (i0.toUInt32 >>> ((16 : Int32).toUInt32 &&& Int32.toUInt32 31)).toInt32) < (256 : Int32) then (if i0 < (65536 : Int32) then i0 else (i0.toUInt32 >>> ((16 : Int32).toUInt32 &&& Int32.toUInt32 31)).toInt32) else ((if i0 < (65536 : Int32) then i0 else (i0.toUInt32 >>> ((16 : Int32).toUInt32 &&& Int32.toUInt32 31)).toInt32).toUInt32 >>> ((8 : Int32).toUInt32 &&& Int32.toUInt32 31)).toInt32).toUInt32 >>> ((4 : Int32).toUInt32 &&& Int32.toUInt32 31)).toInt32).toUInt32 >>> ((2 : Int32).toUInt32 &&& Int32.toUInt32 31)).toInt32))] [] := by
            refine r_iload_n C rfl 0 rfl dJ24_numberOfLeadingZeros_73 (r_iload_n C rfl 1 rfl dJ24_numberOfLeadingZeros_74 (r_iconst (v := (1 : Int32)) C (by decide) dJ24_numberOfLeadingZeros_75 (r_iushr C dJ24_numberOfLeadingZeros_76 (r_isub C dJ24_numberOfLeadingZeros_77 ?_))))
            exact r_ireturn C dJ24_numberOfLeadingZeros_78 (Nat.le_refl _) (Nat.le_refl _) ⟨_, rfl, hw⟩
          refine r_icmp_lt (tgt := 73) C (by decide) dJ24_numberOfLeadingZeros_63 (fun hc2 => ?_) (fun hc2 => ?_)
          · have hJ3 := hJ
            try simp only [if_pos hc2] at hJ3
            exact r_sub C [0, 1] rfl hJ3
          · have hJ3 := hJ
            try simp only [if_neg hc2] at hJ3
            refine r_iinc (v := (if (if (if i0 < (65536 : Int32) then i0 else (i0.toUInt32 >>> ((16 : Int32).toUInt32 &&& Int32.toUInt32 31)).toInt32) < (256 : Int32) then (if i0 < (65536 : Int32) then i0 else (i0.toUInt32 >>> ((16 : Int32).toUInt32 &&& Int32.toUInt32 31)).toInt32) else ((if i0 < (65536 : Int32) then i0 else (i0.toUInt32 >>> ((16 : Int32).toUInt32 &&& Int32.toUInt32 31)).toInt32).toUInt32 >>> ((8 : Int32).toUInt32 &&& Int32.toUInt32 31)).toInt32) < (16 : Int32) then (if (if i0 < (65536 : Int32) then i0 else (i0.toUInt32 >>> ((16 : Int32).toUInt32 &&& Int32.toUInt32 31)).toInt32) < (256 : Int32) then (if i0 < (65536 : Int32) then (31 : Int32) else (31 : Int32) + (-16 : Int32)) else (if i0 < (65536 : Int32) then (31 : Int32) else (31 : Int32) + (-16 : Int32)) + (-8 : Int32)) else (if (if i0 < (65536 : Int32) then i0 else (i0.toUInt32 >>> ((16 : Int32).toUInt32 &&& Int32.toUInt32 31)).toInt32) < (256 : Int32) then (if i0 < (65536 : Int32) then (31 : Int32) else (31 : Int32) + (-16 : Int32)) else (if i0 < (65536 : Int32) then (31 : Int32) else (31 : Int32) + (-16 : Int32)) + (-8 : Int32)) + (-4 : Int32)) + (-2 : Int32)) (L' := [(1, .int ((if (if (if i0 < (65536 : Int32) then i0 else (i0.toUInt32 >>> ((16 : Int32).toUInt32 &&& Int32.toUInt32 31)).toInt32) < (256 : Int32) then (if i0 < (65536 : Int32) then i0 else (i0.toUInt32 >>> ((16 : Int32).toUInt32 &&& Int32.toUInt32 31)).toInt32) else ((if i0 < (65536 : Int32) then i0 else (i0.toUInt32 >>> ((16 : Int32).toUInt32 &&& Int32.toUInt32 31)).toInt32).toUInt32 >>> ((8 : Int32).toUInt32 &&& Int32.toUInt32 31)).toInt32) < (16 : Int32) then (if (if i0 < (65536 : Int32) then i0 else (i0.toUInt32 >>> ((16 : Int32).toUInt32 &&& Int32.toUInt32 31)).toInt32) < (256 : Int32) then (if i0 < (65536 : Int32) then (31 : Int32) else (31 : Int32) + (-16 : Int32)) else (if i0 < (65536 : Int32) then (31 : Int32) else (31 : Int32) + (-16 : Int32)) + (-8 : Int32)) else (if (if i0 < (65536 : Int32) then i0 else (i0.toUInt32 >>> ((16 : Int32).toUInt32 &&& Int32.toUInt32 31)).toInt32) < (256 : Int32) then (if i0 < (65536 : Int32) then (31 : Int32) else (31 : Int32) + (-16 : Int32)) else (if i0 < (65536 : Int32) then (31 : Int32) else (31 : Int32) + (-16 : Int32)) + (-8 : Int32)) + (-4 : Int32)) + (-2 : Int32))), (0, .int (if (if (if i0 < (65536 : Int32) then i0 else (i0.toUInt32 >>> ((16 : Int32).toUInt32 &&& Int32.toUInt32 31)).toInt32) < (256 : Int32) then (if i0 < (65536 : Int32) then i0 else (i0.toUInt32 >>> ((16 : Int32).toUInt32 &&& Int32.toUInt32 31)).toInt32) else ((if i0 < (65536 : Int32) then i0 else (i0.toUInt32 >>> ((16 : Int32).toUInt32 &&& Int32.toUInt32 31)).toInt32).toUInt32 >>> ((8 : Int32).toUInt32 &&& Int32.toUInt32 31)).toInt32) < (16 : Int32) then (if (if i0 < (65536 : Int32) then i0 else (i0.toUInt32 >>> ((16 : Int32).toUInt32 &&& Int32.toUInt32 31)).toInt32) < (256 : Int32) then (if i0 < (65536 : Int32) then i0 else (i0.toUInt32 >>> ((16 : Int32).toUInt32 &&& Int32.toUInt32 31)).toInt32) else ((if i0 < (65536 : Int32) then i0 else (i0.toUInt32 >>> ((16 : Int32).toUInt32 &&& Int32.toUInt32 31)).toInt32).toUInt32 >>> ((8 : Int32).toUInt32 &&& Int32.toUInt32 31)).toInt32) else ((if (if i0 < (65536 : Int32) then i0 else (i0.toUInt32 >>> ((16 : Int32).toUInt32 &&& Int32.toUInt32 31)).toInt32) < (256 : Int32) then (if i0 < (65536 : Int32) then i0 else (i0.toUInt32 >>> ((16 : Int32).toUInt32 &&& Int32.toUInt32 31)).toInt32) else ((if i0 < (65536 : Int32) then i0 else (i0.toUInt32 >>> ((16 : Int32).toUInt32 &&& Int32.toUInt32 31)).toInt32).toUInt32 >>> ((8 : Int32).toUInt32 &&& Int32.toUInt32 31)).toInt32).toUInt32 >>> ((4 : Int32).toUInt32 &&& Int32.toUInt32 31)).toInt32))]) C (u := 0) rfl (by rfl) (by decide) rfl dJ24_numberOfLeadingZeros_66 (r_iload_n C rfl 1 rfl dJ24_numberOfLeadingZeros_69 (r_iconst (v := (2 : Int32)) C (by decide) dJ24_numberOfLeadingZeros_70 (r_iushr C dJ24_numberOfLeadingZeros_71 (r_istore_n (L' := [(0, .int (((if (if (if i0 < (65536 : Int32) then i0 else (i0.toUInt32 >>> ((16 : Int32).toUInt32 &&& Int32.toUInt32 31)).toInt32) < (256 : Int32) then (if i0 < (65536 : Int32) then i0 else (i0.toUInt32 >>> ((16 : Int32).toUInt32 &&& Int32.toUInt32 31)).toInt32) else ((if i0 < (65536 : Int32) then i0 else (i0.toUInt32 >>> ((16 : Int32).toUInt32 &&& Int32.toUInt32 31)).toInt32).toUInt32 >>> ((8 : Int32).toUInt32 &&& Int32.toUInt32 31)).toInt32) < (16 : Int32) then (if (if i0 < (65536 : Int32) then i0 else (i0.toUInt32 >>> ((16 : Int32).toUInt32 &&& Int32.toUInt32 31)).toInt32) < (256 : Int32) then (if i0 < (65536 : Int32) then i0 else (i0.toUInt32 >>> ((16 : Int32).toUInt32 &&& Int32.toUInt32 31)).toInt32) else ((if i0 < (65536 : Int32) then i0 else (i0.toUInt32 >>> ((16 : Int32).toUInt32 &&& Int32.toUInt32 31)).toInt32).toUInt32 >>> ((8 : Int32).toUInt32 &&& Int32.toUInt32 31)).toInt32) else ((if (if i0 < (65536 : Int32) then i0 else (i0.toUInt32 >>> ((16 : Int32).toUInt32 &&& Int32.toUInt32 31)).toInt32) < (256 : Int32) then (if i0 < (65536 : Int32) then i0 else (i0.toUInt32 >>> ((16 : Int32).toUInt32 &&& Int32.toUInt32 31)).toInt32) else ((if i0 < (65536 : Int32) then i0 else (i0.toUInt32 >>> ((16 : Int32).toUInt32 &&& Int32.toUInt32 31)).toInt32).toUInt32 >>> ((8 : Int32).toUInt32 &&& Int32.toUInt32 31)).toInt32).toUInt32 >>> ((4 : Int32).toUInt32 &&& Int32.toUInt32 31)).toInt32).toUInt32 >>> ((2 : Int32).toUInt32 &&& Int32.toUInt32 31)).toInt32)), (1, .int ((if (if (if i0 < (65536 : Int32) then i0 else (i0.toUInt32 >>> ((16 : Int32).toUInt32 &&& Int32.toUInt32 31)).toInt32) < (256 : Int32) then (if i0 < (65536 : Int32) then i0 else (i0.toUInt32 >>> ((16 : Int32).toUInt32 &&& Int32.toUInt32 31)).toInt32) else ((if i0 < (65536 : Int32) then i0 else (i0.toUInt32 >>> ((16 : Int32).toUInt32 &&& Int32.toUInt32 31)).toInt32).toUInt32 >>> ((8 : Int32).toUInt32 &&& Int32.toUInt32 31)).toInt32) < (16 : Int32) then (if (if i0 < (65536 : Int32) then i0 else (i0.toUInt32 >>> ((16 : Int32).toUInt32 &&& Int32.toUInt32 31)).toInt32) < (256 : Int32) then (if i0 < (65536 : Int32) then (31 : Int32) else (31 : Int32) + (-16 : Int32)) else (if i0 < (65536 : Int32) then (31 : Int32) else (31 : Int32) + (-16 : Int32)) + (-8 : Int32)) else (if (if i0 < (65536 : Int32) then i0 else (i0.toUInt32 >>> ((16 : Int32).toUInt32 &&& Int32.toUInt32 31)).toInt32) < (256 : Int32) then (if i0 < (65536 : Int32) then (31 : Int32) else (31 : Int32) + (-16 : Int32)) else (if i0 < (65536 : Int32) then (31 : Int32) else (31 : Int32) + (-16 : Int32)) + (-8 : Int32)) + (-4 : Int32)) + (-2 : Int32)))]) C rfl (by decide) rfl dJ24_numberOfLeadingZeros_72 ?_))))
            exact r_sub C [1, 0] rfl hJ3
        refine r_icmp_lt (tgt := 61) C (by decide) dJ24_numberOfLeadingZeros_51 (fun hc4 => ?_) (fun hc4 => ?_)
        · have hJ5 := hJ
          try simp only [if_pos hc4] at hJ5
          exact r_sub C [0, 1] rfl hJ5
        · have hJ5 := hJ
          try simp only [if_neg hc4] at hJ5
          refine r_iinc (v := (if (if i0 < (65536 : Int32) then i0 else (i0.toUInt32 >>> ((16 : Int32).toUInt32 &&& Int32.toUInt32 31)).toInt32) < (256 : Int32) then (if i0 < (65536 : Int32) then (31 : Int32) else (31 : Int32) + (-16 : Int32)) else (if i0 < (65536 : Int32) then (31 : Int32) else (31 : Int32) + (-16 : Int32)) + (-8 : Int32)) + (-4 : Int32)) (L' := [(1, .int ((if (if i0 < (65536 : Int32) then i0 else (i0.toUInt32 >>> ((16 : Int32).toUInt32 &&& Int32.toUInt32 31)).toInt32) < (256 : Int32) then (if i0 < (65536 : Int32) then (31 : Int32) else (31 : Int32) + (-16 : Int32)) else (if i0 < (65536 : Int32) then (31 : Int32) else (31 : Int32) + (-16 : Int32)) + (-8 : Int32)) + (-4 : Int32))), (0, .int (if (if i0 < (65536 : Int32) then i0 else (i0.toUInt32 >>> ((16 : Int32).toUInt32 &&& Int32.toUInt32 31)).toInt32) < (256 : Int32) then (if i0 < (65536 : Int32) then i0 else (i0.toUInt32 >>> ((16 : Int32).toUInt32 &&& Int32.toUInt32 31)).toInt32) else ((if i0 < (65536 : Int32) then i0 else (i0.toUInt32 >>> ((16 : Int32).toUInt32 &&& Int32.toUInt32 31)).toInt32).toUInt32 >>> ((8 : Int32).toUInt32 &&& Int32.toUInt32 31)).toInt32))]) C (u := 0) rfl (by rfl) (by decide) rfl dJ24_numberOfLeadingZeros_54 (r_iload_n C rfl 1 rfl dJ24_numberOfLeadingZeros_57 (r_iconst (v := (4 : Int32)) C (by decide) dJ24_numberOfLeadingZeros_58 (r_iushr C dJ24_numberOfLeadingZeros_59 (r_istore_n (L' := [(0, .int (((if (if i0 < (65536 : Int32) then i0 else (i0.toUInt32 >>> ((16 : Int32).toUInt32 &&& Int32.toUInt32 31)).toInt32) < (256 : Int32) then (if i0 < (65536 : Int32) then i0 else (i0.toUInt32 >>> ((16 : Int32).toUInt32 &&& Int32.toUInt32 31)).toInt32) else ((if i0 < (65536 : Int32) then i0 else (i0.toUInt32 >>> ((16 : Int32).toUInt32 &&& Int32.toUInt32 31)).toInt32).toUInt32 >>> ((8 : Int32).toUInt32 &&& Int32.toUInt32 31)).toInt32).toUInt32 >>> ((4 : Int32).toUInt32 &&& Int32.toUInt32 31)).toInt32)), (1, .int ((if (if i0 < (65536 : Int32) then i0 else (i0.toUInt32 >>> ((16 : Int32).toUInt32 &&& Int32.toUInt32 31)).toInt32) < (256 : Int32) then (if i0 < (65536 : Int32) then (31 : Int32) else (31 : Int32) + (-16 : Int32)) else (if i0 < (65536 : Int32) then (31 : Int32) else (31 : Int32) + (-16 : Int32)) + (-8 : Int32)) + (-4 : Int32)))]) C rfl (by decide) rfl dJ24_numberOfLeadingZeros_60 ?_))))
          exact r_sub C [1, 0] rfl hJ5
      refine r_icmp_lt (tgt := 48) C (by decide) dJ24_numberOfLeadingZeros_37 (fun hc6 => ?_) (fun hc6 => ?_)
      · have hJ7 := hJ
        try simp only [if_pos hc6] at hJ7
        exact r_sub C [0, 1] rfl hJ7
      · have hJ7 := hJ
        try simp only [if_neg hc6] at hJ7
        refine r_iinc (v := (if i0 < (65536 : Int32) then (31 : Int32) else (31 : Int32) + (-16 : Int32)) + (-8 : Int32)) (L' := [(1, .int ((if i0 < (65536 : Int32) then (31 : Int32) else (31 : Int32) + (-16 : Int32)) + (-8 : Int32))), (0, .int (if i0 < (65536 : Int32) then i0 else (i0.toUInt32 >>> ((16 : Int32).toUInt32 &&& Int32.toUInt32 31)).toInt32))]) C (u := 0) rfl (by rfl) (by decide) rfl dJ24_numberOfLeadingZeros_40 (r_iload_n C rfl 1 rfl dJ24_numberOfLeadingZeros_43 (r_bipush (v := (8 : Int32)) C (by decide) dJ24_numberOfLeadingZeros_44 (r_iushr C dJ24_numberOfLeadingZeros_46 (r_istore_n (L' := [(0, .int (((if i0 < (65536 : Int32) then i0 else (i0.toUInt32 >>> ((16 : Int32).toUInt32 &&& Int32.toUInt32 31)).toInt32).toUInt32 >>> ((8 : Int32).toUInt32 &&& Int32.toUInt32 31)).toInt32)), (1, .int ((if i0 < (65536 : Int32) then (31 : Int32) else (31 : Int32) + (-16 : Int32)) + (-8 : Int32)))]) C rfl (by decide) rfl dJ24_numberOfLeadingZeros_47 ?_))))
        exact r_sub C [1, 0] rfl hJ7
    refine r_icmp_lt (tgt := 33) C (by decide) dJ24_numberOfLeadingZeros_22 (fun hc8 => ?_) (fun hc8 => ?_)
    · have hJ9 := hJ
      try simp only [if_pos hc8] at hJ9
      exact r_sub C [0, 1] rfl hJ9
    · have hJ9 := hJ
      try simp only [if_neg hc8] at hJ9
      refine r_iinc (v := (31 : Int32) + (-16 : Int32)) (L' := [(1, .int ((31 : Int32) + (-16 : Int32))), (0, .int i0)]) C (u := 0) rfl (by rfl) (by decide) rfl dJ24_numberOfLeadingZeros_25 (r_iload_n C rfl 1 rfl dJ24_numberOfLeadingZeros_28 (r_bipush (v := (16 : Int32)) C (by decide) dJ24_numberOfLeadingZeros_29 (r_iushr C dJ24_numberOfLeadingZeros_31 (r_istore_n (L' := [(0, .int ((i0.toUInt32 >>> ((16 : Int32).toUInt32 &&& Int32.toUInt32 31)).toInt32)), (1, .int ((31 : Int32) + (-16 : Int32)))]) C rfl (by decide) rfl dJ24_numberOfLeadingZeros_32 ?_))))
      exact r_sub C [1, 0] rfl hJ9
  · have hw := hw.2 hc1
    refine r_iload_n C rfl 0 rfl dJ24_numberOfLeadingZeros_4 ?_
    have hJ : V h 0 0 14 [] [.int (if ¬ i0 = 0 then (0 : Int32) else (32 : Int32))] := by
      exact r_ireturn C dJ24_numberOfLeadingZeros_14 (Nat.le_refl _) (Nat.le_refl _) ⟨_, rfl, hw⟩
    refine r_if_ne (tgt := 13) C (by decide) dJ24_numberOfLeadingZeros_5 (fun hc10 => ?_) (fun hc10 => ?_)
    · have hJ11 := hJ
      try simp only [if_pos hc10] at hJ11
      refine r_iconst (v := (0 : Int32)) C (by decide) dJ24_numberOfLeadingZeros_13 ?_
      exact r_sub C [] rfl hJ11
    · have hJ11 := hJ
      try simp only [if_neg (show ¬ ¬ i0 = 0 from fun z => z hc10)] at hJ11
      refine r_bipush (v := (32 : Int32)) C (by decide) dJ24_numberOfLeadingZeros_8 (r_goto (tgt := 14) C (by decide) dJ24_numberOfLeadingZeros_10 ?_)
      exact r_sub C [] rfl hJ11
def w_J24_numberOfTrailingZeros (i0 : Int32) (h : Hp) (Q : Int32 → Hp → Prop) : Prop :=
  (0 < ((i0 ^^^ (-1 : Int32)) &&& (i0 - (1 : Int32))) → Q ((if (if (if (if ((i0 ^^^ (-1 : Int32)) &&& (i0 - (1 : Int32))) ≤ (65536 : Int32) then (i0 ^^^ (-1 : Int32)) &&& (i0 - (1 : Int32)) else (((i0 ^^^ (-1 : Int32)) &&& (i0 - (1 : Int32))).toUInt32 >>> ((16 : Int32).toUInt32 &&& Int32.toUInt32 31)).toInt32) ≤ (256 : Int32) then (if ((i0 ^^^ (-1 : Int32)) &&& (i0 - (1 : Int32))) ≤ (65536 : Int32) then (i0 ^^^ (-1 : Int32)) &&& (i0 - (1 : Int32)) else (((i0 ^^^ (-1 : Int32)) &&& (i0 - (1 : Int32))).toUInt32 >>> ((16 : Int32).toUInt32 &&& Int32.toUInt32 31)).toInt32) else ((if ((i0 ^^^ (-1 : Int32)) &&& (i0 - (1 : Int32))) ≤ (65536 : Int32) then (i0 ^^^ (-1 : Int32)) &&& (i0 - (1 : Int32)) else (((i0 ^^^ (-1 : Int32)) &&& (i0 - (1 : Int32))).toUInt32 >>> ((16 : Int32).toUInt32 &&& Int32.toUInt32 31)).toInt32).toUInt32 >>> ((8 : Int32).toUInt32 &&& Int32.toUInt32 31)).toInt32) ≤ (16 : Int32) then (if (if ((i0 ^^^ (-1 : Int32)) &&& (i0 - (1 : Int32))) ≤ (65536 : Int32) then (i0 ^^^ (-1 : Int32)) &&& (i0 - (1 : Int32)) else (((i0 ^^^ (-1 : Int32)) &&& (i0 - (1 : Int32))).toUInt32 >>> ((16 : Int32).toUInt32 &&& Int32.toUInt32 31)).toInt32) ≤ (256 : Int32) then (if ((i0 ^^^ (-1 : Int32)) &&& (i0 - (1 : Int32))) ≤ (65536 : Int32) then (i0 ^^^ (-1 : Int32)) &&& (i0 - (1 : Int32)) else (((i0 ^^^ (-1 : Int32)) &&& (i0 - (1 : Int32))).toUInt32 >>> ((16 : Int32).toUInt32 &&& Int32.toUInt32 31)).toInt32) else ((if ((i0 ^^^ (-1 : Int32)) &&& (i0 - (1 : Int32))) ≤ (65536 : Int32) then (i0 ^^^ (-1 : Int32)) &&& (i0 - (1 : Int32)) else (((i0 ^^^ (-1 : Int32)) &&& (i0 - (1 : Int32))).toUInt32 >>> ((16 : Int32).toUInt32 &&& Int32.toUInt32 31)).toInt32).toUInt32 >>> ((8 : Int32).toUInt32 &&& Int32.toUInt32 31)).toInt32) else ((if (if ((i0 ^^^ (-1 : Int32)) &&& (i0 - (1 : Int32))) ≤ (65536 : Int32) then (i0 ^^^ (-1 : Int32)) &&& (i0 - (1 : Int32)) else (((i0 ^^^ (-1 : Int32)) &&& (i0 - (1 : Int32))).toUInt32 >>> ((16 : Int32).toUInt32 &&& Int32.toUInt32 31)).toInt32) ≤ (256 : Int32) then (if ((i0 ^^^ (-1 : Int32)) &&& (i0 - (1 : Int32))) ≤ (65536 : Int32) then (i0 ^^^ (-1 : Int32)) &&& (i0 - (1 : Int32)) else (((i0 ^^^ (-1 : Int32)) &&& (i0 - (1 : Int32))).toUInt32 >>> ((16 : Int32).toUInt32 &&& Int32.toUInt32 31)).toInt32) else ((if ((i0 ^^^ (-1 : Int32)) &&& (i0 - (1 : Int32))) ≤ (65536 : Int32) then (i0 ^^^ (-1 : Int32)) &&& (i0 - (1 : Int32)) else (((i0 ^^^ (-1 : Int32)) &&& (i0 - (1 : Int32))).toUInt32 >>> ((16 : Int32).toUInt32 &&& Int32.toUInt32 31)).toInt32).toUInt32 >>> ((8 : Int32).toUInt32 &&& Int32.toUInt32 31)).toInt32).toUInt32 >>> ((4 : Int32).toUInt32 &&& Int32.toUInt32 31)).toInt32) ≤ (4 : Int32) then (if (if (if ((i0 ^^^ (-1 : Int32)) &&& (i0 - (1 : Int32))) ≤ (65536 : Int32) then (i0 ^^^ (-1 : Int32)) &&& (i0 - (1 : Int32)) else (((i0 ^^^ (-1 : Int32)) &&& (i0 - (1 : Int32))).toUInt32 >>> ((16 : Int32).toUInt32 &&& Int32.toUInt32 31)).toInt32) ≤ (256 : Int32) then (if ((i0 ^^^ (-1 : Int32)) &&& (i0 - (1 : Int32))) ≤ (65536 : Int32) then (i0 ^^^ (-1 : Int32)) &&& (i0 - (1 : Int32)) else (((i0 ^^^ (-1 : Int32)) &&& (i0 - (1 : Int32))).toUInt32 >>> ((16 : Int32).toUInt32 &&& Int32.toUInt32 31)).toInt32) else ((if ((i0 ^^^ (-1 : Int32)) &&& (i0 - (1 : Int32))) ≤ (65536 : Int32) then (i0 ^^^ (-1 : Int32)) &&& (i0 - (1 : Int32)) else (((i0 ^^^ (-1 : Int32)) &&& (i0 - (1 : Int32))).toUInt32 >>> ((16 : Int32).toUInt32 &&& Int32.toUInt32 31)).toInt32).toUInt32 >>> ((8 : Int32).toUInt32 &&& Int32.toUInt32 31)).toInt32) ≤ (16 : Int32) then (if (if ((i0 ^^^ (-1 : Int32)) &&& (i0 - (1 : Int32))) ≤ (65536 : Int32) then (i0 ^^^ (-1 : Int32)) &&& (i0 - (1 : Int32)) else (((i0 ^^^ (-1 : Int32)) &&& (i0 - (1 : Int32))).toUInt32 >>> ((16 : Int32).toUInt32 &&& Int32.toUInt32 31)).toInt32) ≤ (256 : Int32) then (if ((i0 ^^^ (-1 : Int32)) &&& (i0 - (1 : Int32))) ≤ (65536 : Int32) then (1 : Int32) else (1 : Int32) + (16 : Int32)) else (if ((i0 ^^^ (-1 : Int32)) &&& (i0 - (1 : Int32))) ≤ (65536 : Int32) then (1 : Int32) else (1 : Int32) + (16 : Int32)) + (8 : Int32)) else (if (if ((i0 ^^^ (-1 : Int32)) &&& (i0 - (1 : Int32))) ≤ (65536 : Int32) then (i0 ^^^ (-1 : Int32)) &&& (i0 - (1 : Int32)) else (((i0 ^^^ (-1 : Int32)) &&& (i0 - (1 : Int32))).toUInt32 >>> ((16 : Int32).toUInt32 &&& Int32.toUInt32 31)).toInt32) ≤ (256 : Int32) then (if ((i0 ^^^ (-1 : Int32)) &&& (i0 - (1 : Int32))) ≤ (65536 : Int32) then (1 : Int32) else (1 : Int32) + (16 : Int32)) else (if ((i0 ^^^ (-1 : Int32)) &&& (i0 - (1 : Int32))) ≤ (65536 : Int32) then (1 : Int32) else (1 : Int32) + (16 : Int32)) + (8 : Int32)) + (4 : Int32)) else (if (if (if ((i0 ^^^ (-1 : Int32)) &&& (i0 - (1 : Int32))) ≤ (65536 : Int32) then (i0 ^^^ (-1 : Int32)) &&& (i0 - (1 : Int32)) else (((i0 ^^^ (-1 : Int32)) &&& (i0 - (1 : Int32))).toUInt32 >>> ((16 : Int32).toUInt32 &&& Int32.toUInt32 31)).toInt32) ≤ (256 : Int32) then (if ((i0 ^^^ (-1 : Int32)) &&& (i0 - (1 : Int32))) ≤ (65536 : Int32) then (i0 ^^^ (-1 : Int32)) &&& (i0 - (1 : Int32)) else (((i0 ^^^ (-1 : Int32)) &&& (i0 - (1 : Int32))).toUInt32 >>> ((16 : Int32).toUInt32 &&& Int32.toUInt32 31)).toInt32) else ((if ((i0 ^^^ (-1 : Int32)) &&& (i0 - (1 : Int32))) ≤ (65536 : Int32) then (i0 ^^^ (-1 : Int32)) &&& (i0 - (1 : Int32)) else (((i0 ^^^ (-1 : Int32)) &&& (i0 - (1 : Int32))).toUInt32 >>> ((16 : Int32).toUInt32 &&& Int32.toUInt32 31)).toInt32).toUInt32 >>> ((8 : Int32).toUInt32 &&& Int32.toUInt32 31)).toInt32) ≤ (16 : Int32) then (if (if ((i0 ^^^ (-1 : Int32)) &&& (i0 - (1 : Int32))) ≤ (65536 : Int32) then (i0 ^^^ (-1 : Int32)) &&& (i0 - (1 : Int32)) else (((i0 ^^^ (-1 : Int32)) &&& (i0 - (1 : Int32))).toUInt32 >>> ((16 : Int32).toUInt32 &&& Int32.toUInt32 31)).toInt32) ≤ (256 : Int32) then (if ((i0 ^^^ (-1 : Int32)) &&& (i0 - (1 : Int32))) ≤ (65536 : Int32) then (1 : Int32) else (1 : Int32) + (16 : Int32)) else (if ((i0 ^^^ (-1 : Int32)) &&& (i0 - (1 : Int32))) ≤ (65536 : Int32) then (1 : Int32) else (1 : Int32) + (16 : Int32)) + (8 : Int32)) else (if (if ((i0 ^^^ (-1 : Int32)) &&& (i0 - (1 : Int32))) ≤ (65536 : Int32) then (i0 ^^^ (-1 : Int32)) &&& (i0 - (1 : Int32)) else (((i0 ^^^ (-1 : Int32)) &&& (i0 - (1 : Int32))).toUInt32 >>> ((16 : Int32).toUInt32 &&& Int32.toUInt32 31)).toInt32) ≤ (256 : Int32) then (if ((i0 ^^^ (-1 : Int32)) &&& (i0 - (1 : Int32))) ≤ (65536 : Int32) then (1 : Int32) else (1 : Int32) + (16 : Int32)) else (if ((i0 ^^^ (-1 : Int32)) &&& (i0 - (1 : Int32))) ≤ (65536 : Int32) then (1 : Int32) else (1 : Int32) + (16 : Int32)) + (8 : Int32)) + (4 : Int32)) + (2 : Int32)) + (((if (if (if (if ((i0 ^^^ (-1 : Int32)) &&& (i0 - (1 : Int32))) ≤ (65536 : Int32) then (i0 ^^^ (-1 : Int32)) &&& (i0 - (1 : Int32)) else (((i0 ^^^ (-1 : Int32)) &&& (i0 - (1 : Int32))).toUInt32 >>> ((16 : Int32).toUInt32 &&& Int32.toUInt32 31)).toInt32) ≤ (256 : Int32) then (if ((i0 ^^^ (-1 : Int32)) &&& (i0 - (1 : Int32))) ≤ (65536 : Int32) then (i0 ^^^ (-1 : Int32)) &&& (i0 - (1 : Int32)) else (((i0 ^^^ (-1 : Int32)) &&& (i0 - (1 : Int32))).toUInt32 >>> ((16 : Int32).toUInt32 &&& Int32.toUInt32 31)).toInt32) else ((if ((i0 ^^^ (-1 : Int32)) &&& (i0 - (1 : Int32))) ≤ (65536 : Int32) then (i0 ^^^ (-1 : Int32)) &&& (i0 - (1 : Int32)) else (((i0 ^^^ (-1 : Int32)) &&& (i0 - (1 : Int32))).toUInt32 >>> ((16 : Int32).toUInt32 &&& Int32.toUInt32 31)).toInt32).toUInt32 >>> ((8 : Int32).toUInt32 &&& Int32.toUInt32 31)).toInt32) ≤ (16 : Int32) then (if (if ((i0 ^^^ (-1 : Int32)) &&& (i0 - (1 : Int32))) ≤ (65536 : Int32) then (i0 ^^^ (-1 : Int32)) &&& (i0 - (1 : Int32)) else (((i0 ^^^ (-1 : Int32)) &&& (i0 - (1 : Int32))).toUInt32 >>> ((16 : Int32).toUInt32 &&& Int32.toUInt32 31)).toInt32) ≤ (256 : Int32) then (if ((i0 ^^^ (-1 : Int32)) &&& (i0 - (1 : Int32))) ≤ (65536 : Int32) then (i0 ^^^ (-1 : Int32)) &&& (i0 - (1 : Int32)) else (((i0 ^^^ (-1 : Int32)) &&& (i0 - (1 : Int32))).toUInt32 >>> ((16 : Int32).toUInt32 &&& Int32.toUInt32 31)).toInt32) else ((if ((i0 ^^^ (-1 : Int32)) &&& (i0 - (1 : Int32))) ≤ (65536 : Int32) then (i0 ^^^ (-1 : Int32)) &&& (i0 - (1 : Int32)) else (((i0 ^^^ (-1 : Int32)) &&& (i0 - (1 : Int32))).toUInt32 >>> ((16 : Int32).toUInt32 &&& Int32.toUInt32 31)).toInt32).toUInt32 >>> ((8 : Int32).toUInt32 &&& Int32.toUInt32 31)).toInt32) else ((if (if ((i0 ^^^ (-1 : Int32)) &&& (i0 - (1 : Int32))) ≤ (65536 : Int32) then (i0 ^^^ (-1 : Int32)) &&& (i0 - (1 : Int32)) else (((i0 ^^^ (-1 : Int32)) &&& (i0 - (1 : Int32))).toUInt32 >>> ((16 : Int32).toUInt32 &&& Int32.toUInt32 31)).toInt32) ≤ (256 : Int32) then (if ((i0 ^^^ (-1 : Int32)) &&& (i0 - (1 : Int32))) ≤ (65536 : Int32) then (i0 ^^^ (-1 : Int32)) &&& (i0 - (1 : Int32)) else (((i0 ^^^ (-1 : Int32)) &&& (i0 - (1 : Int32))).toUInt32 >>> ((16 : Int32).toUInt32 &&& Int32.toUInt32 31)).toInt32) else ((if ((i0 ^^^ (-1 : Int32)) &&& (i0 - (1 : Int32))) ≤ (65536 : Int32) then (i0 ^^^ (-1 : Int32)) &&& (i0 - (1 : Int32)) else (((i0 ^^^ (-1 : Int32)) &&& (i0 - (1 : Int32))).toUInt32 >>> ((16 : Int32).toUInt32 &&& Int32.toUInt32 31)).toInt32).toUInt32 >>> ((8 : Int32).toUInt32 &&& Int32.toUInt32 31)).toInt32).toUInt32 >>> ((4 : Int32).toUInt32 &&& Int32.toUInt32 31)).toInt32) ≤ (4 : Int32) then (if (if (if ((i0 ^^^ (-1 : Int32)) &&& (i0 - (1 : Int32))) ≤ (65536 : Int32) then (i0 ^^^ (-1 : Int32)) &&& (i0 - (1 : Int32)) else (((i0 ^^^ (-1 : Int32)) &&& (i0 - (1 : Int32))).toUInt32 >>> ((16 : Int32).toUInt32 &&& Int32.toUInt32 31)).toInt32) ≤ (256 : Int32) then (if ((i0 ^^^ (-1 : Int32)) &&& (i0 - (1 : Int32))) ≤ (65536 : Int32) then (i0 ^^^ (-1 : Int32)) &&& (i0 - (1 : Int32)) else (((i0 ^^^ (-1 : Int32)) &&& (i0 - (1 : Int32))).toUInt32 >>> ((16 : Int32).toUInt32 &&& Int32.toUInt32 31)).toInt32) else ((if ((i0 ^^^ (-1 : Int32)) &&& (i0 - (1 : Int32))) ≤ (65536 : Int32) then (i0 ^^^ (-1 : Int32)) &&& (i0 - (1 : Int32)) else (((i0 ^^^ (-1 : Int32)) &&& (i0 - (1 : Int32))).toUInt32 >>> ((16 : Int32).toUInt32 &&& Int32.toUInt32 31)).toInt32).toUInt32 >>> ((8 : Int32).toUInt32 &&& Int32.toUInt32 31)).toInt32) ≤ (16 : Int32) then (if (if ((i0 ^^^ (-1 : Int32)) &&& (i0 - (1 : Int32))) ≤ (65536 : Int32) then (i0 ^^^ (-1 : Int32)) &&& (i0 - (1 : Int32)) else (((i0 ^^^ (-1 : Int32)) &&& (i0 - (1 : Int32))).toUInt32 >>> ((16 : Int32).toUInt32 &&& Int32.toUInt32 31)).toInt32) ≤ (256 : Int32) then (if ((i0 ^^^ (-1 : Int32)) &&& (i0 - (1 : Int32))) ≤ (65536 : Int32) then (i0 ^^^ (-1 : Int32)) &&& (i0 - (1 : Int32)) else (((i0 ^^^ (-1 : Int32)) &&& (i0 - (1 : Int32))).toUInt32 >>> ((16 : Int32).toUInt32 &&& Int32.toUInt32 31)).toInt32) else ((if ((i0 ^^^ (-1 : Int32)) &&& (i0 - (1 : Int32))) ≤ (65536 : Int32) then (i0 ^^^ (-1 : Int32)) &&& (i0 - (1 : Int32)) else (((i0 ^^^ (-1 : Int32)) &&& (i0 - (1 : Int32))).toUInt32 >>> ((16 : Int32).toUInt32 &&& Int32.toUInt32 31)).toInt32).toUInt32 >>> ((8 : Int32).toUInt32 &&& Int32.toUInt32 31)).toInt32) else ((if (if ((i0 ^^^ (-1 : Int32)) &&& (i0 - (1 : Int32))) ≤ (65536 : Int32) then (i0 ^^^ (-1 : Int32)) &&& (i0 - (1 : Int32)) else (((i0 ^^^ (-1 : Int32)) &&& (i0 - (1 : Int32))).toUInt32 >>> ((16 : Int32).toUInt32 &&& Int32.toUInt32 31)).toInt32) ≤ (256 : Int32) then (if ((i0 ^^^ (-1 : Int32)) &&& (i0 - (1 : Int32))) ≤ (65536 : Int32) then (i0 ^^^ (-1 : Int32)) &&& (i0 - (1 : Int32)) else (((i0 ^^^ (-1 : Int32)) &&& (i0 - (1 : Int32))).toUInt32 >>> ((16 : Int32).toUInt32 &&& Int32.toUInt32 31)).toInt32) else ((if ((i0 ^^^ (-1 : Int32)) &&& (i0 - (1 : Int32))) ≤ (65536 : Int32) then (i0 ^^^ (-1 : Int32)) &&& (i0 - (1 : Int32)) else (((i0 ^^^ (-1 : Int32)) &&& (i0 - (1 : Int32))).toUInt32 >>> ((16 : Int32).toUInt32 &&& Int32.toUInt32 31)).toInt32).toUInt32 >>> ((8 : Int32).toUInt32 &&& Int32.toUInt32 31)).toInt32).toUInt32 >>> ((4 : Int32).toUInt32 &&& Int32.toUInt32 31)).toInt32) else ((if (if (if ((i0 ^^^ (-1 : Int32)) &&& (i0 - (1 : Int32))) ≤ (65536 : Int32) then (i0 ^^^ (-1 : Int32)) &&& (i0 - (1 : Int32)) else (((i0 ^^^ (-1 : Int32)) &&& (i0 - (1 : Int32))).toUInt32 >>> ((16 : Int32).toUInt32 &&& Int32.toUInt32 31)).toInt32) ≤ (256 : Int32) then (if ((i0 ^^^ (-1 : Int32)) &&& (i0 - (1 : Int32))) ≤ (65536 : Int32) then (i0 ^^^ (-1 : Int32)) &&& (i0 - (1 : Int32)) else (((i0 ^^^ (-1 : Int32)) &&& (i0 - (1 : Int32))).toUInt32 >>> ((16 : Int32).toUInt32 &&& Int32.toUInt32 31)).toInt32) else ((if ((i0 ^^^ (-1 : Int32)) &&& (i0 - (1 : Int32))) ≤ (65536 : Int32) then (i0 ^^^ (-1 : Int32)) &&& (i0 - (1 : Int32)) else (((i0 ^^^ (-1 : Int32)) &&& (i0 - (1 : Int32))).toUInt32 >>> ((16 : Int32).toUInt32 &&& Int32.toUInt32 31)).toInt32).toUInt32 >>> ((8 : Int32).toUInt32 &&& Int32.toUInt32 31)).toInt32) ≤ (16 : Int32) then (if (if ((i0 ^^^ (-1 : Int32)) &&& (i0 - (1 : Int32))) ≤ (65536 : Int32) then (i0 ^^^ (-1 : Int32)) &&& (i0 - (1 : Int32)) else (((i0 ^^^ (-1 : Int32)) &&& (i0 - (1 : Int32))).toUInt32 >>> ((16 : Int32).toUInt32 &&& Int32.toUInt32 31)).toInt32) ≤ (256 : Int32) then (if ((i0 ^^^ (-1 : Int32)) &&& (i0 - (1 : Int32))) ≤ (65536 : Int32) then (i0 ^^^ (-1 : Int32)) &&& (i0 - (1 : Int32)) else (((i0 ^^^ (-1 : Int32)) &&& (i0 - (1 : Int32))).toUInt32 >>> ((16 : Int32).toUInt32 &&& Int32.toUInt32 31)).toInt32) else ((if ((i0 ^^^ (-1 : Int32)) &&& (i0 - (1 : Int32))) ≤ (65536 : Int32) then (i0 ^^^ (-1 : Int32)) &&& (i0 - (1 : Int32)) else (((i0 ^^^ (-1 : Int32)) &&& (i0 - (1 : Int32))).toUInt32 >>> ((16 : Int32).toUInt32 &&& Int32.toUInt32 31)).toInt32).toUInt32 >>> ((8 : Int32).toUInt32 &&& Int32.toUInt32 31)).toInt32) else ((if (if ((i0 ^^^ (-1 : Int32)) &&& (i0 - (1 : Int32))) ≤ (65536 : Int32) then (i0 ^^^ (-1 : Int32)) &&& (i0 - (1 : Int32)) else (((i0 ^^^ (-1 : Int32)) &&& (i0 - (1 : Int32))).toUInt32 >>> ((16 : Int32).toUInt32 &&& Int32.toUInt32 31)).toInt32) ≤ (256 : Int32) then (if ((i0 ^^^ (-1 : Int32)) &&& (i0 - (1 : Int32))) ≤ (65536 : Int32) then (i0 ^^^ (-1 : Int32)) &&& (i0 - (1 : Int32)) else (((i0 ^^^ (-1 : Int32)) &&& (i0 - (1 : Int32))).toUInt32 >>> ((16 : Int32).toUInt32 &&& Int32.toUInt32 31)).toInt32) else ((if ((i0 ^^^ (-1 : Int32)) &&& (i0 - (1 : Int32))) ≤ (65536 : Int32) then (i0 ^^^ (-1 : Int32)) &&& (i0 - (1 : Int32)) else (((i0 ^^^ (-1 : Int32)) &&& (i0 - (1 : Int32))).toUInt32 >>> ((16 : Int32).toUInt32 &&& Int32.toUInt32 31)).toInt32).toUInt32 >>> ((8 : Int32).toUInt32 &&& Int32.toUInt32 31)).toInt32).toUInt32 >>> ((4 : Int32).toUInt32 &&& Int32.toUInt32 31)).toInt32).toUInt32 >>> ((2 : Int32).toUInt32 &&& Int32.toUInt32 31)).toInt32).toUInt32 >>> ((1 : Int32).toUInt32 &&& Int32.toUInt32 31)).toInt32)) h) ∧ (¬ 0 < ((i0 ^^^ (-1 : Int32)) &&& (i0 - (1 : Int32))) → Q (((i0 ^^^ (-1 : Int32)) &&& (i0 - (1 : Int32))) &&& (32 : Int32)) h)
theorem sg_J24_numberOfTrailingZeros : ySg yJ24_numberOfTrailingZeros 1 = true := by decide +kernel
theorem c_J24_numberOfTrailingZeros (G : gT) (l : Launch) (i0 : Int32) (h : Hp) (Q : Int32 → Hp → Prop) (hw : w_J24_numberOfTrailingZeros i0 h Q) : Ct G l yJ24_numberOfTrailingZeros (ws_ yJ24_numberOfTrailingZeros cJ24_numberOfTrailingZeros 2 (some .int)) 1 12 0 0 [.int i0] h (pI Q) := by
  refine Ct.of (own := RJ24) false (by decide +kernel) rfl (show (_ : Nat) ≤ _ from Nat.le_of_ble_eq_true rfl) (fun z => by cases z) (fun V C => ?_)
  show V h 0 0 0 [(0, .int i0)] []
  unfold w_J24_numberOfTrailingZeros at hw
  refine r_iload_n C rfl 0 rfl dJ24_numberOfTrailingZeros_0 (r_iconst (v := (-1 : Int32)) C (by decide) dJ24_numberOfTrailingZeros_1 (r_ixor C dJ24_numberOfTrailingZeros_2 (r_iload_n C rfl 0 rfl dJ24_numberOfTrailingZeros_3 (r_iconst (v := (1 : Int32)) C (by decide) dJ24_numberOfTrailingZeros_4 (r_isub C dJ24_numberOfTrailingZeros_5 ?_)))))
  refine r_iand C dJ24_numberOfTrailingZeros_6 (r_istore_n (L' := [(0, .int ((i0 ^^^ (-1 : Int32)) &&& (i0 - (1 : Int32))))]) C rfl (by decide) rfl dJ24_numberOfTrailingZeros_7 (r_iload_n C rfl 0 rfl dJ24_numberOfTrailingZeros_8 ?_))
  refine r_if_gt (tgt := 17) C (by decide) dJ24_numberOfTrailingZeros_9 (fun hc1 => ?_) (fun hc1 => ?_)
  · have hw := hw.1 hc1
    refine r_iconst (v := (1 : Int32)) C (by decide) dJ24_numberOfTrailingZeros_17 (r_istore_n (L' := [(1, .int (1 : Int32)), (0, .int ((i0 ^^^ (-1 : Int32)) &&& (i0 - (1 : Int32))))]) C rfl (by decide) rfl dJ24_numberOfTrailingZeros_18 (r_iload_n C rfl 1 rfl dJ24_numberOfTrailingZeros_19 (r_ldc_w (v := (65536 : Int32)) C q1575 dJ24_numberOfTrailingZeros_20 ?_)))
    have hJ : V h 0 0 34 [(1, .int (if ((i0 ^^^ (-1 : Int32)) &&& (i0 - (1 : Int32))) ≤ (65536 : Int32) then (1 : Int32) else (1 : Int32) + (16 : Int32))), (0, .int (if ((i0 ^^^ (-1 : Int32)) &&& (i0 - (1 : Int32))) ≤ (65536 : Int32) then (i0 ^^^ (-1 : Int32)) &&& (i0 - (1 : Int32)) else (((i0 ^^^ (-1 : Int32)) &&& (i0 - (1 : Int32))).toUInt32 >>> ((16 : Int32).toUInt32 &&& Int32.toUInt32 31)).toInt32))] [] := by
      refine r_iload_n C rfl 1 rfl dJ24_numberOfTrailingZeros_34 (r_sipush (v := (256 : Int32)) C (by decide) dJ24_numberOfTrailingZeros_35 ?_)
      have hJ : V h 0 0 49 [(1, .int (if (if ((i0 ^^^ (-1 : Int32)) &&& (i0 - (1 : Int32))) ≤ (65536 : Int32) then (i0 ^^^ (-1 : Int32)) &&& (i0 - (1 : Int32)) else (((i0 ^^^ (-1 : Int32)) &&& (i0 - (1 : Int32))).toUInt32 >>> ((16 : Int32).toUInt32 &&& Int32.toUInt32 31)).toInt32) ≤ (256 : Int32) then (if ((i0 ^^^ (-1 : Int32)) &&& (i0 - (1 : Int32))) ≤ (65536 : Int32) then (1 : Int32) else (1 : Int32) + (16 : Int32)) else (if ((i0 ^^^ (-1 : Int32)) &&& (i0 - (1 : Int32))) ≤ (65536 : Int32) then (1 : Int32) else (1 : Int32) + (16 : Int32)) + (8 : Int32))), (0, .int (if (if ((i0 ^^^ (-1 : Int32)) &&& (i0 - (1 : Int32))) ≤ (65536 : Int32) then (i0 ^^^ (-1 : Int32)) &&& (i0 - (1 : Int32)) else (((i0 ^^^ (-1 : Int32)) &&& (i0 - (1 : Int32))).toUInt32 >>> ((16 : Int32).toUInt32 &&& Int32.toUInt32 31)).toInt32) ≤ (256 : Int32) then (if ((i0 ^^^ (-1 : Int32)) &&& (i0 - (1 : Int32))) ≤ (65536 : Int32) then (i0 ^^^ (-1 : Int32)) &&& (i0 - (1 : Int32)) else (((i0 ^^^ (-1 : Int32)) &&& (i0 - (1 : Int32))).toUInt32 >>> ((16 : Int32).toUInt32 &&& Int32.toUInt32 31)).toInt32) else ((if ((i0 ^^^ (-1 : Int32)) &&& (i0 - (1 : Int32))) ≤ (65536 : Int32) then (i0 ^^^ (-1 : Int32)) &&& (i0 - (1 : Int32)) else (((i0 ^^^ (-1 : Int32)) &&& (i0 - (1 : Int32))).toUInt32 >>> ((16 : Int32).toUInt32 &&& Int32.toUInt32 31)).toInt32).toUInt32 >>> ((8 : Int32).toUInt32 &&& Int32.toUInt32 31)).toInt32))] [] := by
        refine r_iload_n C rfl 1 rfl dJ24_numberOfTrailingZeros_49 (r_bipush (v := (16 : Int32)) C (by decide) dJ24_numberOfTrailingZeros_50 ?_)
        have hJ : V h 0 0 62 [(1, .int (if (if (if ((i0 ^^^ (-1 : Int32)) &&& (i0 - (1 : Int32))) ≤ (65536 : Int32) then (i0 ^^^ (-1 : Int32)) &&& (i0 - (1 : Int32)) else (((i0 ^^^ (-1 : Int32)) &&& (i0 - (1 : Int32))).toUInt32 >>> ((16 : Int32).toUInt32 &&& Int32.toUInt32 31)).toInt32) ≤ (256 : Int32) then (if ((i0 ^^^ (-1 : Int32)) &&& (i0 - (1 : Int32))) ≤ (65536 : Int32) then (i0 ^^^ (-1 : Int32)) &&& (i0 - (1 : Int32)) else (((i0 ^^^ (-1 : Int32)) &&& (i0 - (1 : Int32))).toUInt32 >>> ((16 : Int32).toUInt32 &&& Int32.toUInt32 31)).toInt32) else ((if ((i0 ^^^ (-1 : Int32)) &&& (i0 - (1 : Int32))) ≤ (65536 : Int32) then (i0 ^^^ (-1 : Int32)) &&& (i0 - (1 : Int32)) else (((i0 ^^^ (-1 : Int32)) &&& (i0 - (1 : Int32))).toUInt32 >>> ((16 : Int32).toUInt32 &&& Int32.toUInt32 31)).toInt32).toUInt32 >>> ((8 : Int32).toUInt32 &&& Int32.toUInt32 31)).toInt32) ≤ (16 : Int32) then (if (if ((i0 ^^^ (-1 : Int32)) &&& (i0 - (1 : Int32))) ≤ (65536 : Int32) then (i0 ^^^ (-1 : Int32)) &&& (i0 - (1 : Int32)) else (((i0 ^^^ (-1 : Int32)) &&& (i0 - (1 : Int32))).toUInt32 >>> ((16 : Int32).toUInt32 &&& Int32.toUInt32 31)).toInt32) ≤ (256 : Int32) then (if ((i0 ^^^ (-1 : Int32)) &&& (i0 - (1 : Int32))) ≤ (65536 : Int32) then (1 : Int32) else (1 : Int32) + (16 : Int32)) else (if ((i0 ^^^ (-1 : Int32)) &&& (i0 - (1 : Int32))) ≤ (65536 : Int32) then (1 : Int32) else (1 : Int32) + (16 : Int32)) + (8 : Int32)) else (if (if ((i0 ^^^ (-1 : Int32)) &&& (i0 - (1 : Int32))) ≤ (65536 : Int32) then (i0 ^^^ (-1 : Int32)) &&& (i0 - (1 : Int32)) else (((i0 ^^^ (-1 : Int32)) &&& (i0 - (1 : Int32))).toUInt32 >>> ((16 : Int32).toUInt32 &&& Int32.toUInt32 31)).toInt32) ≤ (256 : Int32) then (if ((i0 ^^^ (-1 : Int32)) &&& (i0 - (1 : Int32))) ≤ (65536 : Int32) then (1 : Int32) else (1 : Int32) + (16 : Int32)) else (if ((i0 ^^^ (-1 : Int32)) &&& (i0 - (1 : Int32))) ≤ (65536 : Int32) then (1 : Int32) else (1 : Int32) + (16 : Int32)) + (8 : Int32)) + (4 : Int32))), (0, .int (if (if (if ((i0 ^^^ (-1 : Int32)) &&& (i0 - (1 : Int32))) ≤ (65536 : Int32) then (i0 ^^^ (-1 : Int32)) &&& (i0 - (1 : Int32)) else (((i0 ^^^ (-1 : Int32)) &&& (i0 - (1 : Int32))).toUInt32 >>> ((16 : Int32).toUInt32 &&& Int32.toUInt32 31)).toInt32) ≤ (256 : Int32) then (if ((i0 ^^^ (-1 : Int32)) &&& (i0 - (1 : Int32))) ≤ (65536 : Int32) then (i0 ^^^ (-1 : Int32)) &&& (i0 - (1 : Int32)) else (((i0 ^^^ (-1 : Int32)) &&& (i0 - (1 : Int32))).toUInt32 >>> ((16 : Int32).toUInt32 &&& Int32.toUInt32 31)).toInt32) else ((if ((i0 ^^^ (-1 : Int32)) &&& (i0 - (1 : Int32))) ≤ (65536 : Int32) then (i0 ^^^ (-1 : Int32)) &&& (i0 - (1 : Int32)) else (((i0 ^^^ (-1 : Int32)) &&& (i0 - (1 : Int32))).toUInt32 >>> ((16 : Int32).toUInt32 &&& Int32.toUInt32 31)).toInt32).toUInt32 >>> ((8 : Int32).toUInt32 &&& Int32.toUInt32 31)).toInt32) ≤ (16 : Int32) then (if (if ((i0 ^^^ (-1 : Int32)) &&& (i0 - (1 : Int32))) ≤ (65536 : Int32) then (i0 ^^^ (-1 : Int32)) &&& (i0 - (1 : Int32)) else (((i0 ^^^ (-1 : Int32)) &&& (i0 - (1 : Int32))).toUInt32 >>> ((16 : Int32).toUInt32 &&& Int32.toUInt32 31)).toInt32) ≤ (256 : Int32) then (if ((i0 ^^^ (-1 : Int32)) &&& (i0 - (1 : Int32))) ≤ (65536 : Int32) then (i0 ^^^ (-1 : Int32)) &&& (i0 - (1 : Int32)) else (((i0 ^^^ (-1 : Int32)) &&& (i0 - (1 : Int32))).toUInt32 >>> ((16 : Int32).toUInt32 &&& Int32.toUInt32 31)).toInt32) else ((if ((i0 ^^^ (-1 : Int32)) &&& (i0 - (1 : Int32))) ≤ (65536 : Int32) then (i0 ^^^ (-1 : Int32)) &&& (i0 - (1 : Int32)) else (((i0 ^^^ (-1 : Int32)) &&& (i0 - (1 : Int32))).toUInt32 >>> ((16 : Int32).toUInt32 &&& Int32.toUInt32 31)).toInt32).toUInt32 >>> ((8 : Int32).toUInt32 &&& Int32.toUInt32 31)).toInt32) else ((if (if ((i0 ^^^ (-1 : Int32)) &&& (i0 - (1 : Int32))) ≤ (65536 : Int32) then (i0 ^^^ (-1 : Int32)) &&& (i0 - (1 : Int32)) else (((i0 ^^^ (-1 : Int32)) &&& (i0 - (1 : Int32))).toUInt32 >>> ((16 : Int32).toUInt32 &&& Int32.toUInt32 31)).toInt32) ≤ (256 : Int32) then (if ((i0 ^^^ (-1 : Int32)) &&& (i0 - (1 : Int32))) ≤ (65536 : Int32) then (i0 ^^^ (-1 : Int32)) &&& (i0 - (1 : Int32)) else (((i0 ^^^ (-1 : Int32)) &&& (i0 - (1 : Int32))).toUInt32 >>> ((16 : Int32).toUInt32 &&& Int32.toUInt32 31)).toInt32) else ((if ((i0 ^^^ (-1 : Int32)) &&& (i0 - (1 : Int32))) ≤ (65536 : Int32) then (i0 ^^^ (-1 : Int32)) &&& (i0 - (1 : Int32)) else (((i0 ^^^ (-1 : Int32)) &&& (i0 - (1 : Int32))).toUInt32 >>> ((16 : Int32).toUInt32 &&& Int32.toUInt32 31)).toInt32).toUInt32 >>> ((8 : Int32).toUInt32 &&& Int32.toUInt32 31)).toInt32).toUInt32 >>> ((4 : Int32).toUInt32 &&& Int32.toUInt32 31)).toInt32))] [] := by
          refine r_iload_n C rfl 1 rfl dJ24_numberOfTrailingZeros_62 (r_iconst (v := (4 : Int32)) C (by decide) dJ24_numberOfTrailingZeros_63 ?_)
          have hJ : V h 0 0 74 [(1, .int (if (if (if (if ((i0 ^^^ (-1 : Int32)) &&& (i0 - (1 : Int32))) ≤ (65536 : Int32) then (i0 ^^^ (-1 : Int32)) &&& (i0 - (1 : Int32)) else (((i0 ^^^ (-1 : Int32)) &&& (i0 - (1 : Int32))).toUInt32 >>> ((16 : Int32).toUInt32 &&& Int32.toUInt32 31)).toInt32) ≤ (256 : Int32) then (if ((i0 ^^^ (-1 : Int32)) &&& (i0 - (1 : Int32))) ≤ (65536 : Int32) then (i0 ^^^ (-1 : Int32)) &&& (i0 - (1 : Int32)) else (((i0 ^^^ (-1 : Int32)) &&& (i0 - (1 : Int32))).toUInt32 >>> ((16 : Int32).toUInt32 &&& Int32.toUInt32 31)).toInt32) else ((if ((i0 ^^^ (-1 : Int32)) &&& (i0 - (1 : Int32))) ≤ (65536 : Int32) then (i0 ^^^ (-1 : Int32)) &&& (i0 - (1 : Int32)) else (((i0 ^^^ (-1 : Int32)) &&& (i0 - (1 : Int32))).toUInt32 >>> ((16 : Int32).toUInt32 &&& Int32.toUInt32 31)).toInt32).toUInt32 >>> ((8 : Int32).toUInt32 &&& Int32.toUInt32 31)).toInt32) ≤ (16 : Int32) then (if (if ((i0 ^^^ (-1 : Int32)) &&& (i0 - (1 : Int32))) ≤ (65536 : Int32) then (i0 ^^^ (-1 : Int32)) &&& (i0 - (1 : Int32)) else (((i0 ^^^ (-1 : Int32)) &&& (i0 - (1 : Int32))).toUInt32 >>> ((16 : Int32).toUInt32 &&& Int32.toUInt32 31)).toInt32) ≤ (256 : Int32) then (if ((i0 ^^^ (-1 : Int32)) &&& (i0 - (1 : Int32))) ≤ (65536 : Int32) then (i0 ^^^ (-1 : Int32)) &&& (i0 - (1 : Int32)) else (((i0 ^^^ (-1 : Int32)) &&& (i0 - (1 : Int32))).toUInt32 >>> ((16 : Int32).toUInt32 &&& Int32.toUInt32 31)).toInt32) else ((if ((i0 ^^^ (-1 : Int32)) &&& (i0 - (1 : Int32))) ≤ (65536 : Int32) then (i0 ^^^ (-1 : Int32)) &&& (i0 - (1 : Int32)) else (((i0 ^^^ (-1 : Int32)) &&& (i0 - (1 : Int32))).toUInt32 >>> ((16 : Int32).toUInt32 &&& Int32.toUInt32 31)).toInt32).toUInt32 >>> ((8 : Int32).toUInt32 &&& Int32.toUInt32 31)).toInt32) else ((if (if ((i0 ^^^ (-1 : Int32)) &&& (i0 - (1 : Int32))) ≤ (65536 : Int32) then (i0 ^^^ (-1 : Int32)) &&& (i0 - (1 : Int32)) else (((i0 ^^^ (-1 : Int32)) &&& (i0 - (1 : Int32))).toUInt32 >>> ((16 : Int32).toUInt32 &&& Int32.toUInt32 31)).toInt32) ≤ (256 : Int32) then (if ((i0 ^^^ (-1 : Int32)) &&& (i0 - (1 : Int32))) ≤ (65536 : Int32) then (i0 ^^^ (-1 : Int32)) &&& (i0 - (1 : Int32)) else (((i0 ^^^ (-1 : Int32)) &&& (i0 - (1 : Int32))).toUInt32 >>> ((16 : Int32).toUInt32 &&& Int32.toUInt32 31)).toInt32) else ((if ((i0 ^^^ (-1 : Int32)) &&& (i0 - (1 : Int32))) ≤ (65536 : Int32) then (i0 ^^^ (-1 : Int32)) &&& (i0 - (1 : Int32)) else (((i0 ^^^ (-1 : Int32)) &&& (i0 - (1 : Int32))).toUInt32 >>> ((16 : Int32).toUInt32 &&& Int32.toUInt32 31)).toInt32).toUInt32 >>> ((8 : Int32).toUInt32 &&& Int32.toUInt32 31)).toInt32).toUInt32 >>> ((4 : Int32).toUInt32 &&& Int32.toUInt32 31)).toInt32) ≤ (4 : Int32) then (if (if (if ((i0 ^^^ (-1 : Int32)) &&& (i0 - (1 : Int32))) ≤ (65536 : Int32) then (i0 ^^^ (-1 : Int32)) &&& (i0 - (1 : Int32)) else (((i0 ^^^ (-1 : Int32)) &&& (i0 - (1 : Int32))).toUInt32 >>> ((16 : Int32).toUInt32 &&& Int32.toUInt32 31)).toInt32) ≤ (256 : Int32) then (if ((i0 ^^^ (-1 : Int32)) &&& (i0 - (1 : Int32))) ≤ (65536 : Int32) then (i0 ^^^ (-1 : Int32)) &&& (i0 - (1 : Int32)) else (((i0 ^^^ (-1 : Int32)) &&& (i0 - (1 : Int32))).toUInt32 >>> ((16 : Int32).toUInt32 &&& Int32.toUInt32 31)).toInt32) else ((if ((i0 ^^^ (-1 : Int32)) &&& (i0 - (1 : Int32))) ≤ (65536 : Int32) then (i0 ^^^ (-1 : Int32)) &&& (i0 - (1 : Int32)) else (((i0 ^^^ (-1 : Int32)) &&& (i0 - (1 : Int32))).toUInt32 >>> ((16 : Int32).toUInt32 &&& Int32.toUInt32 31)).toInt32).toUInt32 >>> ((8 : Int32).toUInt32 &&& Int32.toUInt32 31)).toInt32) ≤ (16 : Int32) then (if (if ((i0 ^^^ (-1 : Int32)) &&& (i0 - (1 : Int32))) ≤ (65536 : Int32) then (i0 ^^^ (-1 : Int32)) &&& (i0 - (1 : Int32)) else (((i0 ^^^ (-1 : Int32)) &&& (i0 - (1 : Int32))).toUInt32 >>> ((16 : Int32).toUInt32 &&& Int32.toUInt32 31)).toInt32) ≤ (256 : Int32) then (if ((i0 ^^^ (-1 : Int32)) &&& (i0 - (1 : Int32))) ≤ (65536 : Int32) then (1 : Int32) else (1 : Int32) + (16 : Int32)) else (if ((i0 ^^^ (-1 : Int32)) &&& (i0 - (1 : Int32))) ≤ (65536 : Int32) then (1 : Int32) else (1 : Int32) + (16 : Int32)) + (8 : Int32)) else (if (if ((i0 ^^^ (-1 : Int32)) &&& (i0 - (1 : Int32))) ≤ (65536 : Int32) then (i0 ^^^ (-1 : Int32)) &&& (i0 - (1 : Int32)) else (((i0 ^^^ (-1 : Int32)) &&& (i0 - (1 : Int32))).toUInt32 >>> ((16 : Int32).toUInt32 &&& Int32.toUInt32 31)).toInt32) ≤ (256 : Int32) then (if ((i0 ^^^ (-1 : Int32)) &&& (i0 - (1 : Int32))) ≤ (65536 : Int32) then (1 : Int32) else (1 : Int32) + (16 : Int32)) else (if ((i0 ^^^ (-1 : Int32)) &&& (i0 - (1 : Int32))) ≤ (65536 : Int32) then (1 : Int32) else (1 : Int32) + (16 : Int32)) + (8 : Int32)) + (4 : Int32)) else (if (if (if ((i0 ^^^ (-1 : Int32)) &&& (i0 - (1 : Int32))) ≤ (65536 : Int32) then (i0 ^^^ (-1 : Int32)) &&& (i0 - (1 : Int32)) else (((i0 ^^^ (-1 : Int32)) &&& (i0 - (1 : Int32))).toUInt32 >>> ((16 : Int32).toUInt32 &&& Int32.toUInt32 31)).toInt32) ≤ (256 : Int32) then (if ((i0 ^^^ (-1 : Int32)) &&& (i0 - (1 : Int32))) ≤ (65536 : Int32) then (i0 ^^^ (-1 : Int32)) &&& (i0 - (1 : Int32)) else (((i0 ^^^ (-1 : Int32)) &&& (i0 - (1 : Int32))).toUInt32 >>> ((16 : Int32).toUInt32 &&& Int32.toUInt32 31)).toInt32) else ((if ((i0 ^^^ (-1 : Int32)) &&& (i0 - (1 : Int32))) ≤ (65536 : Int32) then (i0 ^^^ (-1 : Int32)) &&& (i0 - (1 : Int32)) else (((i0 ^^^ (-1 : Int32)) &&& (i0 - (1 : Int32))).toUInt32 >>> ((16 : Int32).toUInt32 &&& Int32.toUInt32 31)).toInt32).toUInt32 >>> ((8 : Int32).toUInt32 &&& Int32.toUInt32 31)).toInt32) ≤ (16 : Int32) then (if (if ((i0 ^^^ (-1 : Int32)) &&& (i0 - (1 : Int32))) ≤ (65536 : Int32) then (i0 ^^^ (-1 : Int32)) &&& (i0 - (1 : Int32)) else (((i0 ^^^ (-1 : Int32)) &&& (i0 - (1 : Int32))).toUInt32 >>> ((16 : Int32).toUInt32 &&& Int32.toUInt32 31)).toInt32) ≤ (256 : Int32) then (if ((i0 ^^^ (-1 : Int32)) &&& (i0 - (1 : Int32))) ≤ (65536 : Int32) then (1 : Int32) else (1 : Int32) + (16 : Int32)) else (if ((i0 ^^^ (-1 : Int32)) &&& (i0 - (1 : Int32))) ≤ (65536 : Int32) then (1 : Int32) else (1 : Int32) + (16 : Int32)) + (8 : Int32)) else (if (if ((i0 ^^^ (-1 : Int32)) &&& (i0 - (1 : Int32))) ≤ (65536 : Int32) then (i0 ^^^ (-1 : Int32)) &&& (i0 - (1 : Int32)) else (((i0 ^^^ (-1 : Int32)) &&& (i0 - (1 : Int32))).toUInt32 >>> ((16 : Int32).toUInt32 &&& Int32.toUInt32 31)).toInt32) ≤ (256 : Int32) then (if ((i0 ^^^ (-1 : Int32)) &&& (i0 - (1 : Int32))) ≤ (65536 : Int32) then (1 : Int32) else (1 : Int32) + (16 : Int32)) else (if ((i0 ^^^ (-1 : Int32)) &&& (i0 - (1 : Int32))) ≤ (65536 : Int32) then (1 : Int32) else (1 : Int32) + (16 : Int32)) + (8 : Int32)) + (4 : Int32)) + (2 : Int32))), (0, .int (if (if (if (if ((i0 ^^^ (-1 : Int32)) &&& (i0 - (1 : Int32))) ≤ (65536 : Int32) then (i0 ^^^ (-1 : Int32)) &&& (i0 - (1 : Int32)) else (((i0 ^^^ (-1 : Int32)) &&& (i0 - (1 : Int32))).toUInt32 >>> ((16 : Int32).toUInt32 &&& Int32.toUInt32 31)).toInt32) ≤ (256 : Int32) then (if ((i0 ^^^ (-1 : Int32)) &&& (i0 - (1 : Int32))) ≤ (65536 : Int32) then (i0 ^^^ (-1 : Int32)) &&& (i0 - (1 : Int32)) else (((i0 ^^^ (-1 : Int32)) &&& (i0 - (1 : Int32))).toUInt32 >>> ((16 : Int32).toUInt32 &&& Int32.toUInt32 31)).toInt32) else ((if ((i0 ^^^ (-1 : Int32)) &&& (i0 - (1 : Int32))) ≤ (65536 : Int32) then (i0 ^^^ (-1 : Int32)) &&& (i0 - (1 : Int32)) else (((i0 ^^^ (-1 : Int32)) &&& (i0 - (1 : Int32))).toUInt32 >>> ((16 : Int32).toUInt32 &&& Int32.toUInt32 31)).toInt32).toUInt32 >>> ((8 : Int32).toUInt32 &&& Int32.toUInt32 31)).toInt32) ≤ (16 : Int32) then (if (if ((i0 ^^^ (-1 : Int32)) &&& (i0 - (1 : Int32))) ≤ (65536 : Int32) then (i0 ^^^ (-1 : Int32)) &&& (i0 - (1 : Int32)) else (((i0 ^^^ (-1 : Int32)) &&& (i0 - (1 : Int32))).toUInt32 >>> ((16 : Int32).toUInt32 &&& Int32.toUInt32 31)).toInt32) ≤ (256 : Int32) then (if ((i0 ^^^ (-1 : Int32)) &&& (i0 - (1 : Int32))) ≤ (65536 : Int32) then (i0 ^^^ (-1 : Int32)) &&& (i0 - (1 : Int32)) else (((i0 ^^^ (-1 : Int32)) &&& (i0 - (1 : Int32))).toUInt32 >>> ((16 : Int32).toUInt32 &&& Int32.toUInt32 31)).toInt32) else ((if ((i0 ^^^ (-1 : Int32)) &&& (i0 - (1 : Int32))) ≤ (65536 : Int32) then (i0 ^^^ (-1 : Int32)) &&& (i0 - (1 : Int32)) else (((i0 ^^^ (-1 : Int32)) &&& (i0 - (1 : Int32))).toUInt32 >>> ((16 : Int32).toUInt32 &&& Int32.toUInt32 31)).toInt32).toUInt32 >>> ((8 : Int32).toUInt32 &&& Int32.toUInt32 31)).toInt32) else ((if (if ((i0 ^^^ (-1 : Int32)) &&& (i0 - (1 : Int32))) ≤ (65536 : Int32) then (i0 ^^^ (-1 : Int32)) &&& (i0 - (1 : Int32)) else (((i0 ^^^ (-1 : Int32)) &&& (i0 - (1 : Int32))).toUInt32 >>> ((16 : Int32).toUInt32 &&& Int32.toUInt32 31)).toInt32) ≤ (256 : Int32) then (if ((i0 ^^^ (-1 : Int32)) &&& (i0 - (1 : Int32))) ≤ (65536 : Int32) then (i0 ^^^ (-1 : Int32)) &&& (i0 - (1 : Int32)) else (((i0 ^^^ (-1 : Int32)) &&& (i0 - (1 : Int32))).toUInt32 >>> ((16 : Int32).toUInt32 &&& Int32.toUInt32 31)).toInt32) else ((if ((i0 ^^^ (-1 : Int32)) &&& (i0 - (1 : Int32))) ≤ (65536 : Int32) then (i0 ^^^ (-1 : Int32)) &&& (i0 - (1 : Int32)) else (((i0 ^^^ (-1 : Int32)) &&& (i0 - (1 : Int32))).toUInt32 >>> ((16 : Int32).toUInt32 &&& Int32.toUInt32 31)).toInt32).toUInt32 >>> ((8 : Int32).toUInt32 &&& Int32.toUInt32 31)).toInt32).toUInt32 >>> ((4 : Int32).toUInt32 &&& Int32.toUInt32 31)).toInt32) ≤ (4 : Int32) then (if (if (if ((i0 ^^^ (-1 : Int32)) &&& (i0 - (1 : Int32))) ≤ (65536 : Int32) then (i0 ^^^ (-1 : Int32)) &&& (i0 - (1 : Int32)) else (((i0 ^^^ (-1 : Int32)) &&& (i0 - (1 : Int32))).toUInt32 >>> ((16 : Int32).toUInt32 &&& Int32.toUInt32 31)).toInt32) ≤ (256 : Int32) then (if ((i0 ^^^ (-1 : Int32)) &&& (i0 - (1 : Int32))) ≤ (65536 : Int32) then (i0 ^^^ (-1 : Int32)) &&& (i0 - (1 : Int32)) else (((i0 ^^^ (-1 : Int32)) &&& (i0 - (1 : Int32))).toUInt32 >>> ((16 : Int32).toUInt32 &&& Int32.toUInt32 31)).toInt32) else ((if ((i0 ^^^ (-1 : Int32)) &&& (i0 - (1 : Int32))) ≤ (65536 : Int32) then (i0 ^^^ (-1 : Int32)) &&& (i0 - (1 : Int32)) else (((i0 ^^^ (-1 : Int32)) &&& (i0 - (1 : Int32))).toUInt32 >>> ((16 : Int32).toUInt32 &&& Int32.toUInt32 31)).toInt32).toUInt32 >>> ((8 : Int32).toUInt32 &&& Int32.toUInt32 31)).toInt32) ≤ (16 : Int32) then (if (if ((i0 ^^^ (-1 : Int32)) &&& (i0 - (1 : Int32))) ≤ (65536 : Int32) then (i0 ^^^ (-1 : Int32)) &&& (i0 - (1 : Int32)) else (((i0 ^^^ (-1 : Int32)) &&& (i0 - (1 : Int32))).toUInt32 >>> ((16 : Int32).toUInt32 &&& Int32.toUInt32 31)).toInt32) ≤ (256 : Int32) then (if ((i0 ^^^ (-1 : Int32)) &&& (i0 - (1 : Int32))) ≤ (65536 : Int32) then (i0 ^^^ (-1 : Int32)) &&& (i0 - (1 : Int32)) else (((i0 ^^^ (-1 : Int32)) &&& (i0 - (1 : Int32))).toUInt32 >>> ((16 : Int32).toUInt32 &&& Int32.toUInt32 31)).toInt32) else ((if ((i0 ^^^ (-1 : Int32)) &&& (i0 - (1 : Int32))) ≤ (65536 : Int32) then (i0 ^^^ (-1 : Int32)) &&& (i0 - (1 : Int32)) else (((i0 ^^^ (-1 : Int32)) &&& (i0 - (1 : Int32))).toUInt32 >>> ((16 : Int32).toUInt32 &&& Int32.toUInt32 31)).toInt32).toUInt32 >>> ((8 : Int32).toUInt32 &&& Int32.toUInt32 31)).toInt32) else ((if (if ((i0 ^^^ (-1 : Int32)) &&& (i0 - (1 : Int32))) ≤ (65536 : Int32) then (i0 ^^^ (-1 : Int32)) &&& (i0 - (1 : Int32)) else (((i0 ^^^ (-1 : Int32)) &&& (i0 - (1 : Int32))).toUInt32 >>> ((16 : Int32).toUInt32 &&& Int32.toUInt32 31)).toInt32) ≤ (256 : Int32) then (if ((i0 ^^^ (-1 : Int32)) &&& (i0 - (1 : Int32))) ≤ (65536 : Int32) then (i0 ^^^ (-1 : Int32)) &&& (i0 - (1 : Int32)) else (((i0 ^^^ (-1 : Int32)) &&& (i0 - (1 : Int32))).toUInt32 >>> ((16 : Int32).toUInt32 &&& Int32.toUInt32 31)).toInt32) else ((if ((i0 ^^^ (-1 : Int32)) &&& (i0 - (1 : Int32))) ≤ (65536 : Int32) then (i0 ^^^ (-1 : Int32)) &&& (i0 - (1 : Int32)) else (((i0 ^^^ (-1 : Int32)) &&& (i0 - (1 : Int32))).toUInt32 >>> ((16 : Int32).toUInt32 &&& Int32.toUInt32 31)).toInt32).toUInt32 >>> ((8 : Int32).toUInt32 &&& Int32.toUInt32 31)).toInt32).toUInt32 >>> ((4 : Int32).toUInt32 &&& Int32.toUInt32 31)).toInt32) else ((if (if (if ((i0 ^^^ (-1 : Int32)) &&& (i0 - (1 : Int32))) ≤ (65536 : Int32) then (i0 ^^^ (-1 : Int32)) &&& (i0 - (1 : Int32)) else (((i0 ^^^ (-1 : Int32)) &&& (i0 - (1 : Int32))).toUInt32 >>> ((16 : Int32).toUInt32 &&& Int32.toUInt32 31)).toInt32) ≤ (256 : Int32) then (if ((i0 ^^^ (-1 : Int32)) &&& (i0 - (1 : Int32))) ≤ (65536 : Int32) then (i0 ^^^ (-1 : Int32)) &&& (i0 - (1 : Int32)) else (((i0 ^^^ (-1 : Int32)) &&& (i0 - (1 : Int32))).toUInt32 >>> ((16 : Int32).toUInt32 &&& Int32.toUInt32 31)).toInt32) else ((if ((i0 ^^^ (-1 : Int32)) &&& (i0 - (1 : Int32))) ≤ (65536 : Int32) then (i0 ^^^ (-1 : Int32)) &&& (i0 - (1 : Int32)) else (((i0 ^^^ (-1 : Int32)) &&& (i0 - (1 : Int32))).toUInt32 >>> ((16 : Int32).toUInt32 &&& Int32.toUInt32 31)).toInt32).toUInt32 >>> ((8 : Int32).toUInt32 &&& Int32.toUInt32 31)).toInt32) ≤ (16 : Int32) then (if (if ((i0 ^^^ (-1 : Int32)) &&& (i0 - (1 : Int32))) ≤ (65536 : Int32) then (i0 ^^^ (-1 : Int32)) &&& (i0 - (1 : Int32)) else (((i0 ^^^ (-1 : Int32)) &&& (i0 - (1 : Int32))).toUInt32 >>> ((16 : Int32).toUInt32 &&& Int32.toUInt32 31)).toInt32) ≤ (256 : Int32) then (if ((i0 ^^^ (-1 : Int32)) &&& (i0 - (1 : Int32))) ≤ (65536 : Int32) then (i0 ^^^ (-1 : Int32)) &&& (i0 - (1 : Int32)) else (((i0 ^^^ (-1 : Int32)) &&& (i0 - (1 : Int32))).toUInt32 >>> ((16 : Int32).toUInt32 &&& Int32.toUInt32 31)).toInt32) else ((if ((i0 ^^^ (-1 : Int32)) &&& (i0 - (1 : Int32))) ≤ (65536 : Int32) then (i0 ^^^ (-1 : Int32)) &&& (i0 - (1 : Int32)) else (((i0 ^^^ (-1 : Int32)) &&& (i0 - (1 : Int32))).toUInt32 >>> ((16 : Int32).toUInt32 &&& Int32.toUInt32 31)).toInt32).toUInt32 >>> ((8 : Int32).toUInt32 &&& Int32.toUInt32 31)).toInt32) else ((if (if ((i0 ^^^ (-1 : Int32)) &&& (i0 - (1 : Int32))) ≤ (65536 : Int32) then (i0 ^^^ (-1 : Int32)) &&& (i0 - (1 : Int32)) else (((i0 ^^^ (-1 : Int32)) &&& (i0 - (1 : Int32))).toUInt32 >>> ((16 : Int32).toUInt32 &&& Int32.toUInt32 31)).toInt32) ≤ (256 : Int32) then (if ((i0 ^^^ (-1 : Int32)) &&& (i0 - (1 : Int32))) ≤ (65536 : Int32) then (i0 ^^^ (-1 : Int32)) &&& (i0 - (1 : Int32)) else (((i0 ^^^ (-1 : Int32)) &&& (i0 - (1 : Int32))).toUInt32 >>> ((16 : Int32).toUInt32 &&& Int32.toUInt32 31)).toInt32) else ((if ((i0 ^^^ (-1 : Int32)) &&& (i0 - (1 : Int32))) ≤ (65536 : Int32) then (i0 ^^^ (-1 : Int32)) &&& (i0 - (1 : Int32)) else (((i0 ^^^ (-1 : Int32)) &&& (i0 - (1 : Int32))).toUInt32 >>> ((16 : Int32).toUInt32 &&& Int32.toUInt32 31)).toInt32).toUInt32 >>> ((8 : Int32).toUInt32 &&& Int32.toUInt32 31)).toInt32).toUInt32 >>> ((4 : Int32).toUInt32 &&& Int32.toUInt32 31)).toInt32).toUInt32 >>> ((2 : Int32).toUInt32 &&& Int32.toUInt32 31)).toInt32))] [] := by
            refine r_iload_n C rfl 0 rfl dJ24_numberOfTrailingZeros_74 (r_iload_n C rfl 1 rfl dJ24_numberOfTrailingZeros_75 (r_iconst (v := (1 : Int32)) C (by decide) dJ24_numberOfTrailingZeros_76 (r_iushr C dJ24_numberOfTrailingZeros_77 (r_iadd C dJ24_numberOfTrailingZeros_78 ?_))))
            exact r_ireturn C dJ24_numberOfTrailingZeros_79 (Nat.le_refl _) (Nat.le_refl _) ⟨_, rfl, hw⟩
          refine r_icmp_le (tgt := 74) C (by decide) dJ24_numberOfTrailingZeros_64 (fun hc2 => ?_) (fun hc2 => ?_)
          · have hJ3 := hJ
            try simp only [if_pos hc2] at hJ3
            exact r_sub C [0, 1] rfl hJ3
          · have hJ3 := hJ
            try simp only [if_neg hc2] at hJ3
            refine r_iinc (v := (if (if (if ((i0 ^^^ (-1 : Int32)) &&& (i0 - (1 : Int32))) ≤ (65536 : Int32) then (i0 ^^^ (-1 : Int32)) &&& (i0 - (1 : Int32)) else (((i0 ^^^ (-1 : Int32)) &&& (i0 - (1 : Int32))).toUInt32 >>> ((16 : Int32).toUInt32 &&& Int32.toUInt32 31)).toInt32) ≤ (256 : Int32) then (if ((i0 ^^^ (-1 : Int32)) &&& (i0 - (1 : Int32))) ≤ (65536 : Int32) then (i0 ^^^ (-1 : Int32)) &&& (i0 - (1 : Int32)) else (((i0 ^^^ (-1 : Int32)) &&& (i0 - (1 : Int32))).toUInt32 >>> ((16 : Int32).toUInt32 &&& Int32.toUInt32 31)).toInt32) else ((if ((i0 ^^^ (-1 : Int32)) &&& (i0 - (1 : Int32))) ≤ (65536 : Int32) then (i0 ^^^ (-1 : Int32)) &&& (i0 - (1 : Int32)) else (((i0 ^^^ (-1 : Int32)) &&& (i0 - (1 : Int32))).toUInt32 >>> ((16 : Int32).toUInt32 &&& Int32.toUInt32 31)).toInt32).toUInt32 >>> ((8 : Int32).toUInt32 &&& Int32.toUInt32 31)).toInt32) ≤ (16 : Int32) then (if (if ((i0 ^^^ (-1 : Int32)) &&& (i0 - (1 : Int32))) ≤ (65536 : Int32) then (i0 ^^^ (-1 : Int32)) &&& (i0 - (1 : Int32)) else (((i0 ^^^ (-1 : Int32)) &&& (i0 - (1 : Int32))).toUInt32 >>> ((16 : Int32).toUInt32 &&& Int32.toUInt32 31)).toInt32) ≤ (256 : Int32) then (if ((i0 ^^^ (-1 : Int32)) &&& (i0 - (1 : Int32))) ≤ (65536 : Int32) then (1 : Int32) else (1 : Int32) + (16 : Int32)) else (if ((i0 ^^^ (-1 : Int32)) &&& (i0 - (1 : Int32))) ≤ (65536 : Int32) then (1 : Int32) else (1 : Int32) + (16 : Int32)) + (8 : Int32)) else (if (if ((i0 ^^^ (-1 : Int32)) &&& (i0 - (1 : Int32))) ≤ (65536 : Int32) then (i0 ^^^ (-1 : Int32)) &&& (i0 - (1 : Int32)) else (((i0 ^^^ (-1 : Int32)) &&& (i0 - (1 : Int32))).toUInt32 >>> ((16 : Int32).toUInt32 &&& Int32.toUInt32 31)).toInt32) ≤ (256 : Int32) then (if ((i0 ^^^ (-1 : Int32)) &&& (i0 - (1 : Int32))) ≤ (65536 : Int32) then (1 : Int32) else (1 : Int32) + (16 : Int32)) else (if ((i0 ^^^ (-1 : Int32)) &&& (i0 - (1 : Int32))) ≤ (65536 : Int32) then (1 : Int32) else (1 : Int32) + (16 : Int32)) + (8 : Int32)) + (4 : Int32)) + (2 : Int32)) (L' := [(1, .int ((if (if (if ((i0 ^^^ (-1 : Int32)) &&& (i0 - (1 : Int32))) ≤ (65536 : Int32) then (i0 ^^^ (-1 : Int32)) &&& (i0 - (1 : Int32)) else (((i0 ^^^ (-1 : Int32)) &&& (i0 - (1 : Int32))).toUInt32 >>> ((16 : Int32).toUInt32 &&& Int32.toUInt32 31)).toInt32) ≤ (256 : Int32) then (if ((i0 ^^^ (-1 : Int32)) &&& (i0 - (1 : Int32))) ≤ (65536 : Int32) then (i0 ^^^ (-1 : Int32)) &&& (i0 - (1 : Int32)) else (((i0 ^^^ (-1 : Int32)) &&& (i0 - (1 : Int32))).toUInt32 >>> ((16 : Int32).toUInt32 &&& Int32.toUInt32 31)).toInt32) else ((if ((i0 ^^^ (-1 : Int32)) &&& (i0 - (1 : Int32))) ≤ (65536 : Int32) then (i0 ^^^ (-1 : Int32)) &&& (i0 - (1 : Int32)) else (((i0 ^^^ (-1 : Int32)) &&& (i0 - (1 : Int32))).toUInt32 >>> ((16 : Int32).toUInt32 &&& Int32.toUInt32 31)).toInt32).toUInt32 >>> ((8 : Int32).toUInt32 &&& Int32.toUInt32 31)).toInt32) ≤ (16 : Int32) then (if (if ((i0 ^^^ (-1 : Int32)) &&& (i0 - (1 : Int32))) ≤ (65536 : Int32) then (i0 ^^^ (-1 : Int32)) &&& (i0 - (1 : Int32)) else (((i0 ^^^ (-1 : Int32)) &&& (i0 - (1 : Int32))).toUInt32 >>> ((16 : Int32).toUInt32 &&& Int32.toUInt32 31)).toInt32) ≤ (256 : Int32) then (if ((i0 ^^^ (-1 : Int32)) &&& (i0 - (1 : Int32))) ≤ (65536 : Int32) then (1 : Int32) else (1 : Int32) + (16 : Int32)) else (if ((i0 ^^^ (-1 : Int32)) &&& (i0 - (1 : Int32))) ≤ (65536 : Int32) then (1 : Int32) else (1 : Int32) + (16 : Int32)) + (8 : Int32)) else (if (if ((i0 ^^^ (-1 : Int32)) &&& (i0 - (1 : Int32))) ≤ (65536 : Int32) then (i0 ^^^ (-1 : Int32)) &&& (i0 - (1 : Int32)) else (((i0 ^^^ (-1 : Int32)) &&& (i0 - (1 : Int32))).toUInt32 >>> ((16 : Int32).toUInt32 &&& Int32.toUInt32 31)).toInt32) ≤ (256 : Int32) then (if ((i0 ^^^ (-1 : Int32)) &&& (i0 - (1 : Int32))) ≤ (65536 : Int32) then (1 : Int32) else (1 : Int32) + (16 : Int32)) else (if ((i0 ^^^ (-1 : Int32)) &&& (i0 - (1 : Int32))) ≤ (65536 : Int32) then (1 : Int32) else (1 : Int32) + (16 : Int32)) + (8 : Int32)) + (4 : Int32)) + (2 : Int32))), (0, .int (if (if (if ((i0 ^^^ (-1 : Int32)) &&& (i0 - (1 : Int32))) ≤ (65536 : Int32) then (i0 ^^^ (-1 : Int32)) &&& (i0 - (1 : Int32)) else (((i0 ^^^ (-1 : Int32)) &&& (i0 - (1 : Int32))).toUInt32 >>> ((16 : Int32).toUInt32 &&& Int32.toUInt32 31)).toInt32) ≤ (256 : Int32) then (if ((i0 ^^^ (-1 : Int32)) &&& (i0 - (1 : Int32))) ≤ (65536 : Int32) then (i0 ^^^ (-1 : Int32)) &&& (i0 - (1 : Int32)) else (((i0 ^^^ (-1 : Int32)) &&& (i0 - (1 : Int32))).toUInt32 >>> ((16 : Int32).toUInt32 &&& Int32.toUInt32 31)).toInt32) else ((if ((i0 ^^^ (-1 : Int32)) &&& (i0 - (1 : Int32))) ≤ (65536 : Int32) then (i0 ^^^ (-1 : Int32)) &&& (i0 - (1 : Int32)) else (((i0 ^^^ (-1 : Int32)) &&& (i0 - (1 : Int32))).toUInt32 >>> ((16 : Int32).toUInt32 &&& Int32.toUInt32 31)).toInt32).toUInt32 >>> ((8 : Int32).toUInt32 &&& Int32.toUInt32 31)).toInt32) ≤ (16 : Int32) then (if (if ((i0 ^^^ (-1 : Int32)) &&& (i0 - (1 : Int32))) ≤ (65536 : Int32) then (i0 ^^^ (-1 : Int32)) &&& (i0 - (1 : Int32)) else (((i0 ^^^ (-1 : Int32)) &&& (i0 - (1 : Int32))).toUInt32 >>> ((16 : Int32).toUInt32 &&& Int32.toUInt32 31)).toInt32) ≤ (256 : Int32) then (if ((i0 ^^^ (-1 : Int32)) &&& (i0 - (1 : Int32))) ≤ (65536 : Int32) then (i0 ^^^ (-1 : Int32)) &&& (i0 - (1 : Int32)) else (((i0 ^^^ (-1 : Int32)) &&& (i0 - (1 : Int32))).toUInt32 >>> ((16 : Int32).toUInt32 &&& Int32.toUInt32 31)).toInt32) else ((if ((i0 ^^^ (-1 : Int32)) &&& (i0 - (1 : Int32))) ≤ (65536 : Int32) then (i0 ^^^ (-1 : Int32)) &&& (i0 - (1 : Int32)) else (((i0 ^^^ (-1 : Int32)) &&& (i0 - (1 : Int32))).toUInt32 >>> ((16 : Int32).toUInt32 &&& Int32.toUInt32 31)).toInt32).toUInt32 >>> ((8 : Int32).toUInt32 &&& Int32.toUInt32 31)).toInt32) else ((if (if ((i0 ^^^ (-1 : Int32)) &&& (i0 - (1 : Int32))) ≤ (65536 : Int32) then (i0 ^^^ (-1 : Int32)) &&& (i0 - (1 : Int32)) else (((i0 ^^^ (-1 : Int32)) &&& (i0 - (1 : Int32))).toUInt32 >>> ((16 : Int32).toUInt32 &&& Int32.toUInt32 31)).toInt32) ≤ (256 : Int32) then (if ((i0 ^^^ (-1 : Int32)) &&& (i0 - (1 : Int32))) ≤ (65536 : Int32) then (i0 ^^^ (-1 : Int32)) &&& (i0 - (1 : Int32)) else (((i0 ^^^ (-1 : Int32)) &&& (i0 - (1 : Int32))).toUInt32 >>> ((16 : Int32).toUInt32 &&& Int32.toUInt32 31)).toInt32) else ((if ((i0 ^^^ (-1 : Int32)) &&& (i0 - (1 : Int32))) ≤ (65536 : Int32) then (i0 ^^^ (-1 : Int32)) &&& (i0 - (1 : Int32)) else (((i0 ^^^ (-1 : Int32)) &&& (i0 - (1 : Int32))).toUInt32 >>> ((16 : Int32).toUInt32 &&& Int32.toUInt32 31)).toInt32).toUInt32 >>> ((8 : Int32).toUInt32 &&& Int32.toUInt32 31)).toInt32).toUInt32 >>> ((4 : Int32).toUInt32 &&& Int32.toUInt32 31)).toInt32))]) C (u := 0) rfl (by rfl) (by decide) rfl dJ24_numberOfTrailingZeros_67 (r_iload_n C rfl 1 rfl dJ24_numberOfTrailingZeros_70 (r_iconst (v := (2 : Int32)) C (by decide) dJ24_numberOfTrailingZeros_71 (r_iushr C dJ24_numberOfTrailingZeros_72 (r_istore_n (L' := [(0, .int (((if (if (if ((i0 ^^^ (-1 : Int32)) &&& (i0 - (1 : Int32))) ≤ (65536 : Int32) then (i0 ^^^ (-1 : Int32)) &&& (i0 - (1 : Int32)) else (((i0 ^^^ (-1 : Int32)) &&& (i0 - (1 : Int32))).toUInt32 >>> ((16 : Int32).toUInt32 &&& Int32.toUInt32 31)).toInt32) ≤ (256 : Int32) then (if ((i0 ^^^ (-1 : Int32)) &&& (i0 - (1 : Int32))) ≤ (65536 : Int32) then (i0 ^^^ (-1 : Int32)) &&& (i0 - (1 : Int32)) else (((i0 ^^^ (-1 : Int32)) &&& (i0 - (1 : Int32))).toUInt32 >>> ((16 : Int32).toUInt32 &&& Int32.toUInt32 31)).toInt32) else ((if ((i0 ^^^ (-1 : Int32)) &&& (i0 - (1 : Int32))) ≤ (65536 : Int32) then (i0 ^^^ (-1 : Int32)) &&& (i0 - (1 : Int32)) else (((i0 ^^^ (-1 : Int32)) &&& (i0 - (1 : Int32))).toUInt32 >>> ((16 : Int32).toUInt32 &&& Int32.toUInt32 31)).toInt32).toUInt32 >>> ((8 : Int32).toUInt32 &&& Int32.toUInt32 31)).toInt32) ≤ (16 : Int32) then (if (if ((i0 ^^^ (-1 : Int32)) &&& (i0 - (1 : Int32))) ≤ (65536 : Int32) then (i0 ^^^ (-1 : Int32)) &&& (i0 - (1 : Int32)) else (((i0 ^^^ (-1 : Int32)) &&& (i0 - (1 : Int32))).toUInt32 >>> ((16 : Int32).toUInt32 &&& Int32.toUInt32 31)).toInt32) ≤ (256 : Int32) then (if ((i0 ^^^ (-1 : Int32)) &&& (i0 - (1 : Int32))) ≤ (65536 : Int32) then (i0 ^^^ (-1 : Int32)) &&& (i0 - (1 : Int32)) else (((i0 ^^^ (-1 : Int32)) &&& (i0 - (1 : Int32))).toUInt32 >>> ((16 : Int32).toUInt32 &&& Int32.toUInt32 31)).toInt32) else ((if ((i0 ^^^ (-1 : Int32)) &&& (i0 - (1 : Int32))) ≤ (65536 : Int32) then (i0 ^^^ (-1 : Int32)) &&& (i0 - (1 : Int32)) else (((i0 ^^^ (-1 : Int32)) &&& (i0 - (1 : Int32))).toUInt32 >>> ((16 : Int32).toUInt32 &&& Int32.toUInt32 31)).toInt32).toUInt32 >>> ((8 : Int32).toUInt32 &&& Int32.toUInt32 31)).toInt32) else ((if (if ((i0 ^^^ (-1 : Int32)) &&& (i0 - (1 : Int32))) ≤ (65536 : Int32) then (i0 ^^^ (-1 : Int32)) &&& (i0 - (1 : Int32)) else (((i0 ^^^ (-1 : Int32)) &&& (i0 - (1 : Int32))).toUInt32 >>> ((16 : Int32).toUInt32 &&& Int32.toUInt32 31)).toInt32) ≤ (256 : Int32) then (if ((i0 ^^^ (-1 : Int32)) &&& (i0 - (1 : Int32))) ≤ (65536 : Int32) then (i0 ^^^ (-1 : Int32)) &&& (i0 - (1 : Int32)) else (((i0 ^^^ (-1 : Int32)) &&& (i0 - (1 : Int32))).toUInt32 >>> ((16 : Int32).toUInt32 &&& Int32.toUInt32 31)).toInt32) else ((if ((i0 ^^^ (-1 : Int32)) &&& (i0 - (1 : Int32))) ≤ (65536 : Int32) then (i0 ^^^ (-1 : Int32)) &&& (i0 - (1 : Int32)) else (((i0 ^^^ (-1 : Int32)) &&& (i0 - (1 : Int32))).toUInt32 >>> ((16 : Int32).toUInt32 &&& Int32.toUInt32 31)).toInt32).toUInt32 >>> ((8 : Int32).toUInt32 &&& Int32.toUInt32 31)).toInt32).toUInt32 >>> ((4 : Int32).toUInt32 &&& Int32.toUInt32 31)).toInt32).toUInt32 >>> ((2 : Int32).toUInt32 &&& Int32.toUInt32 31)).toInt32)), (1, .int ((if (if (if ((i0 ^^^ (-1 : Int32)) &&& (i0 - (1 : Int32))) ≤ (65536 : Int32) then (i0 ^^^ (-1 : Int32)) &&& (i0 - (1 : Int32)) else (((i0 ^^^ (-1 : Int32)) &&& (i0 - (1 : Int32))).toUInt32 >>> ((16 : Int32).toUInt32 &&& Int32.toUInt32 31)).toInt32) ≤ (256 : Int32) then (if ((i0 ^^^ (-1 : Int32)) &&& (i0 - (1 : Int32))) ≤ (65536 : Int32) then (i0 ^^^ (-1 : Int32)) &&& (i0 - (1 : Int32)) else (((i0 ^^^ (-1 : Int32)) &&& (i0 - (1 : Int32))).toUInt32 >>> ((16 : Int32).toUInt32 &&& Int32.toUInt32 31)).toInt32) else ((if ((i0 ^^^ (-1 : Int32)) &&& (i0 - (1 : Int32))) ≤ (65536 : Int32) then (i0 ^^^ (-1 : Int32)) &&& (i0 - (1 : Int32)) else (((i0 ^^^ (-1 : Int32)) &&& (i0 - (1 : Int32))).toUInt32 >>> ((16 : Int32).toUInt32 &&& Int32.toUInt32 31)).toInt32).toUInt32 >>> ((8 : Int32).toUInt32 &&& Int32.toUInt32 31)).toInt32) ≤ (16 : Int32) then (if (if ((i0 ^^^ (-1 : Int32)) &&& (i0 - (1 : Int32))) ≤ (65536 : Int32) then (i0 ^^^ (-1 : Int32)) &&& (i0 - (1 : Int32)) else (((i0 ^^^ (-1 : Int32)) &&& (i0 - (1 : Int32))).toUInt32 >>> ((16 : Int32).toUInt32 &&& Int32.toUInt32 31)).toInt32) ≤ (256 : Int32) then (if ((i0 ^^^ (-1 : Int32)) &&& (i0 - (1 : Int32))) ≤ (65536 : Int32) then (1 : Int32) else (1 : Int32) + (16 : Int32)) else (if ((i0 ^^^ (-1 : Int32)) &&& (i0 - (1 : Int32))) ≤ (65536 : Int32) then (1 : Int32) else (1 : Int32) + (16 : Int32)) + (8 : Int32)) else (if (if ((i0 ^^^ (-1 : Int32)) &&& (i0 - (1 : Int32))) ≤ (65536 : Int32) then (i0 ^^^ (-1 : Int32)) &&& (i0 - (1 : Int32)) else (((i0 ^^^ (-1 : Int32)) &&& (i0 - (1 : Int32))).toUInt32 >>> ((16 : Int32).toUInt32 &&& Int32.toUInt32 31)).toInt32) ≤ (256 : Int32) then (if ((i0 ^^^ (-1 : Int32)) &&& (i0 - (1 : Int32))) ≤ (65536 : Int32) then (1 : Int32) else (1 : Int32) + (16 : Int32)) else (if ((i0 ^^^ (-1 : Int32)) &&& (i0 - (1 : Int32))) ≤ (65536 : Int32) then (1 : Int32) else (1 : Int32) + (16 : Int32)) + (8 : Int32)) + (4 : Int32)) + (2 : Int32)))]) C rfl (by decide) rfl dJ24_numberOfTrailingZeros_73 ?_))))
            exact r_sub C [1, 0] rfl hJ3
        refine r_icmp_le (tgt := 62) C (by decide) dJ24_numberOfTrailingZeros_52 (fun hc4 => ?_) (fun hc4 => ?_)
        · have hJ5 := hJ
          try simp only [if_pos hc4] at hJ5
          exact r_sub C [0, 1] rfl hJ5
        · have hJ5 := hJ
          try simp only [if_neg hc4] at hJ5
          refine r_iinc (v := (if (if ((i0 ^^^ (-1 : Int32)) &&& (i0 - (1 : Int32))) ≤ (65536 : Int32) then (i0 ^^^ (-1 : Int32)) &&& (i0 - (1 : Int32)) else (((i0 ^^^ (-1 : Int32)) &&& (i0 - (1 : Int32))).toUInt32 >>> ((16 : Int32).toUInt32 &&& Int32.toUInt32 31)).toInt32) ≤ (256 : Int32) then (if ((i0 ^^^ (-1 : Int32)) &&& (i0 - (1 : Int32))) ≤ (65536 : Int32) then (1 : Int32) else (1 : Int32) + (16 : Int32)) else (if ((i0 ^^^ (-1 : Int32)) &&& (i0 - (1 : Int32))) ≤ (65536 : Int32) then (1 : Int32) else (1 : Int32) + (16 : Int32)) + (8 : Int32)) + (4 : Int32)) (L' := [(1, .int ((if (if ((i0 ^^^ (-1 : Int32)) &&& (i0 - (1 : Int32))) ≤ (65536 : Int32) then (i0 ^^^ (-1 : Int32)) &&& (i0 - (1 : Int32)) else (((i0 ^^^ (-1 : Int32)) &&& (i0 - (1 : Int32))).toUInt32 >>> ((16 : Int32).toUInt32 &&& Int32.toUInt32 31)).toInt32) ≤ (256 : Int32) then (if ((i0 ^^^ (-1 : Int32)) &&& (i0 - (1 : Int32))) ≤ (65536 : Int32) then (1 : Int32) else (1 : Int32) + (16 : Int32)) else (if ((i0 ^^^ (-1 : Int32)) &&& (i0 - (1 : Int32))) ≤ (65536 : Int32) then (1 : Int32) else (1 : Int32) + (16 : Int32)) + (8 : Int32)) + (4 : Int32))), (0, .int (if (if ((i0 ^^^ (-1 : Int32)) &&& (i0 - (1 : Int32))) ≤ (65536 : Int32) then (i0 ^^^ (-1 : Int32)) &&& (i0 - (1 : Int32)) else (((i0 ^^^ (-1 : Int32)) &&& (i0 - (1 : Int32))).toUInt32 >>> ((16 : Int32).toUInt32 &&& Int32.toUInt32 31)).toInt32) ≤ (256 : Int32) then (if ((i0 ^^^ (-1 : Int32)) &&& (i0 - (1 : Int32))) ≤ (65536 : Int32) then (i0 ^^^ (-1 : Int32)) &&& (i0 - (1 : Int32)) else (((i0 ^^^ (-1 : Int32)) &&& (i0 - (1 : Int32))).toUInt32 >>> ((16 : Int32).toUInt32 &&& Int32.toUInt32 31)).toInt32) else ((if ((i0 ^^^ (-1 : Int32)) &&& (i0 - (1 : Int32))) ≤ (65536 : Int32) then (i0 ^^^ (-1 : Int32)) &&& (i0 - (1 : Int32)) else (((i0 ^^^ (-1 : Int32)) &&& (i0 - (1 : Int32))).toUInt32 >>> ((16 : Int32).toUInt32 &&& Int32.toUInt32 31)).toInt32).toUInt32 >>> ((8 : Int32).toUInt32 &&& Int32.toUInt32 31)).toInt32))]) C (u := 0) rfl (by rfl) (by decide) rfl dJ24_numberOfTrailingZeros_55 (r_iload_n C rfl 1 rfl dJ24_numberOfTrailingZeros_58 (r_iconst (v := (4 : Int32)) C (by decide) dJ24_numberOfTrailingZeros_59 (r_iushr C dJ24_numberOfTrailingZeros_60 (r_istore_n (L' := [(0, .int (((if (if ((i0 ^^^ (-1 : Int32)) &&& (i0 - (1 : Int32))) ≤ (65536 : Int32) then (i0 ^^^ (-1 : Int32)) &&& (i0 - (1 : Int32)) else (((i0 ^^^ (-1 : Int32)) &&& (i0 - (1 : Int32))).toUInt32 >>> ((16 : Int32).toUInt32 &&& Int32.toUInt32 31)).toInt32) ≤ (256 : Int32) then (if ((i0 ^^^ (-1 : Int32)) &&& (i0 - (1 : Int32))) ≤ (65536 : Int32) then (i0 ^^^ (-1 : Int32)) &&& (i0 - (1 : Int32)) else (((i0 ^^^ (-1 : Int32)) &&& (i0 - (1 : Int32))).toUInt32 >>> ((16 : Int32).toUInt32 &&& Int32.toUInt32 31)).toInt32) else ((if ((i0 ^^^ (-1 : Int32)) &&& (i0 - (1 : Int32))) ≤ (65536 : Int32) then (i0 ^^^ (-1 : Int32)) &&& (i0 - (1 : Int32)) else (((i0 ^^^ (-1 : Int32)) &&& (i0 - (1 : Int32))).toUInt32 >>> ((16 : Int32).toUInt32 &&& Int32.toUInt32 31)).toInt32).toUInt32 >>> ((8 : Int32).toUInt32 &&& Int32.toUInt32 31)).toInt32).toUInt32 >>> ((4 : Int32).toUInt32 &&& Int32.toUInt32 31)).toInt32)), (1, .int ((if (if ((i0 ^^^ (-1 : Int32)) &&& (i0 - (1 : Int32))) ≤ (65536 : Int32) then (i0 ^^^ (-1 : Int32)) &&& (i0 - (1 : Int32)) else (((i0 ^^^ (-1 : Int32)) &&& (i0 - (1 : Int32))).toUInt32 >>> ((16 : Int32).toUInt32 &&& Int32.toUInt32 31)).toInt32) ≤ (256 : Int32) then (if ((i0 ^^^ (-1 : Int32)) &&& (i0 - (1 : Int32))) ≤ (65536 : Int32) then (1 : Int32) else (1 : Int32) + (16 : Int32)) else (if ((i0 ^^^ (-1 : Int32)) &&& (i0 - (1 : Int32))) ≤ (65536 : Int32) then (1 : Int32) else (1 : Int32) + (16 : Int32)) + (8 : Int32)) + (4 : Int32)))]) C rfl (by decide) rfl dJ24_numberOfTrailingZeros_61 ?_))))
          exact r_sub C [1, 0] rfl hJ5
      refine r_icmp_le (tgt := 49) C (by decide) dJ24_numberOfTrailingZeros_38 (fun hc6 => ?_) (fun hc6 => ?_)
      · have hJ7 := hJ
        try simp only [if_pos hc6] at hJ7
        exact r_sub C [0, 1] rfl hJ7
      · have hJ7 := hJ
        try simp only [if_neg hc6] at hJ7
        refine r_iinc (v := (if ((i0 ^^^ (-1 : Int32)) &&& (i0 - (1 : Int32))) ≤ (65536 : Int32) then (1 : Int32) else (1 : Int32) + (16 : Int32)) + (8 : Int32)) (L' := [(1, .int ((if ((i0 ^^^ (-1 : Int32)) &&& (i0 - (1 : Int32))) ≤ (65536 : Int32) then (1 : Int32) else (1 : Int32) + (16 : Int32)) + (8 : Int32))), (0, .int (if ((i0 ^^^ (-1 : Int32)) &&& (i0 - (1 : Int32))) ≤ (65536 : Int32) then (i0 ^^^ (-1 : Int32)) &&& (i0 - (1 : Int32)) else (((i0 ^^^ (-1 : Int32)) &&& (i0 - (1 : Int32))).toUInt32 >>> ((16 : Int32).toUInt32 &&& Int32.toUInt32 31)).toInt32))]) C (u := 0) rfl (by rfl) (by decide) rfl dJ24_numberOfTrailingZeros_41 (r_iload_n C rfl 1 rfl dJ24_numberOfTrailingZeros_44 (r_bipush (v := (8 : Int32)) C (by decide) dJ24_numberOfTrailingZeros_45 (r_iushr C dJ24_numberOfTrailingZeros_47 (r_istore_n (L' := [(0, .int (((if ((i0 ^^^ (-1 : Int32)) &&& (i0 - (1 : Int32))) ≤ (65536 : Int32) then (i0 ^^^ (-1 : Int32)) &&& (i0 - (1 : Int32)) else (((i0 ^^^ (-1 : Int32)) &&& (i0 - (1 : Int32))).toUInt32 >>> ((16 : Int32).toUInt32 &&& Int32.toUInt32 31)).toInt32).toUInt32 >>> ((8 : Int32).toUInt32 &&& Int32.toUInt32 31)).toInt32)), (1, .int ((if ((i0 ^^^ (-1 : Int32)) &&& (i0 - (1 : Int32))) ≤ (65536 : Int32) then (1 : Int32) else (1 : Int32) + (16 : Int32)) + (8 : Int32)))]) C rfl (by decide) rfl dJ24_numberOfTrailingZeros_48 ?_))))
        exact r_sub C [1, 0] rfl hJ7
    refine r_icmp_le (tgt := 34) C (by decide) dJ24_numberOfTrailingZeros_23 (fun hc8 => ?_) (fun hc8 => ?_)
    · have hJ9 := hJ
      try simp only [if_pos hc8] at hJ9
      exact r_sub C [0, 1] rfl hJ9
    · have hJ9 := hJ
      try simp only [if_neg hc8] at hJ9
      refine r_iinc (v := (1 : Int32) + (16 : Int32)) (L' := [(1, .int ((1 : Int32) + (16 : Int32))), (0, .int ((i0 ^^^ (-1 : Int32)) &&& (i0 - (1 : Int32))))]) C (u := 0) rfl (by rfl) (by decide) rfl dJ24_numberOfTrailingZeros_26 (r_iload_n C rfl 1 rfl dJ24_numberOfTrailingZeros_29 (r_bipush (v := (16 : Int32)) C (by decide) dJ24_numberOfTrailingZeros_30 (r_iushr C dJ24_numberOfTrailingZeros_32 (r_istore_n (L' := [(0, .int ((((i0 ^^^ (-1 : Int32)) &&& (i0 - (1 : Int32))).toUInt32 >>> ((16 : Int32).toUInt32 &&& Int32.toUInt32 31)).toInt32)), (1, .int ((1 : Int32) + (16 : Int32)))]) C rfl (by decide) rfl dJ24_numberOfTrailingZeros_33 ?_))))
      exact r_sub C [1, 0] rfl hJ9
  · have hw := hw.2 hc1
    refine r_iload_n C rfl 0 rfl dJ24_numberOfTrailingZeros_12 (r_bipush (v := (32 : Int32)) C (by decide) dJ24_numberOfTrailingZeros_13 (r_iand C dJ24_numberOfTrailingZeros_15 ?_))
    exact r_ireturn C dJ24_numberOfTrailingZeros_16 (Nat.le_refl _) (Nat.le_refl _) ⟨_, rfl, hw⟩
def w_J31_bitCount (j0 : Int64) (h : Hp) (Q : Int32 → Hp → Prop) : Prop :=
  Q ((((((((((j0 - (((j0.toUInt64 >>> ((1 : Int32).toInt64.toUInt64 &&& Int64.toUInt64 63)).toInt64) &&& (6148914691236517205 : Int64))) &&& (3689348814741910323 : Int64)) + ((((j0 - (((j0.toUInt64 >>> ((1 : Int32).toInt64.toUInt64 &&& Int64.toUInt64 63)).toInt64) &&& (6148914691236517205 : Int64))).toUInt64 >>> ((2 : Int32).toInt64.toUInt64 &&& Int64.toUInt64 63)).toInt64) &&& (3689348814741910323 : Int64))) + (((((j0 - (((j0.toUInt64 >>> ((1 : Int32).toInt64.toUInt64 &&& Int64.toUInt64 63)).toInt64) &&& (6148914691236517205 : Int64))) &&& (3689348814741910323 : Int64)) + ((((j0 - (((j0.toUInt64 >>> ((1 : Int32).toInt64.toUInt64 &&& Int64.toUInt64 63)).toInt64) &&& (6148914691236517205 : Int64))).toUInt64 >>> ((2 : Int32).toInt64.toUInt64 &&& Int64.toUInt64 63)).toInt64) &&& (3689348814741910323 : Int64))).toUInt64 >>> ((4 : Int32).toInt64.toUInt64 &&& Int64.toUInt64 63)).toInt64)) &&& (1085102592571150095 : Int64)) + (((((((j0 - (((j0.toUInt64 >>> ((1 : Int32).toInt64.toUInt64 &&& Int64.toUInt64 63)).toInt64) &&& (6148914691236517205 : Int64))) &&& (3689348814741910323 : Int64)) + ((((j0 - (((j0.toUInt64 >>> ((1 : Int32).toInt64.toUInt64 &&& Int64.toUInt64 63)).toInt64) &&& (6148914691236517205 : Int64))).toUInt64 >>> ((2 : Int32).toInt64.toUInt64 &&& Int64.toUInt64 63)).toInt64) &&& (3689348814741910323 : Int64))) + (((((j0 - (((j0.toUInt64 >>> ((1 : Int32).toInt64.toUInt64 &&& Int64.toUInt64 63)).toInt64) &&& (6148914691236517205 : Int64))) &&& (3689348814741910323 : Int64)) + ((((j0 - (((j0.toUInt64 >>> ((1 : Int32).toInt64.toUInt64 &&& Int64.toUInt64 63)).toInt64) &&& (6148914691236517205 : Int64))).toUInt64 >>> ((2 : Int32).toInt64.toUInt64 &&& Int64.toUInt64 63)).toInt64) &&& (3689348814741910323 : Int64))).toUInt64 >>> ((4 : Int32).toInt64.toUInt64 &&& Int64.toUInt64 63)).toInt64)) &&& (1085102592571150095 : Int64)).toUInt64 >>> ((8 : Int32).toInt64.toUInt64 &&& Int64.toUInt64 63)).toInt64)) + ((((((((j0 - (((j0.toUInt64 >>> ((1 : Int32).toInt64.toUInt64 &&& Int64.toUInt64 63)).toInt64) &&& (6148914691236517205 : Int64))) &&& (3689348814741910323 : Int64)) + ((((j0 - (((j0.toUInt64 >>> ((1 : Int32).toInt64.toUInt64 &&& Int64.toUInt64 63)).toInt64) &&& (6148914691236517205 : Int64))).toUInt64 >>> ((2 : Int32).toInt64.toUInt64 &&& Int64.toUInt64 63)).toInt64) &&& (3689348814741910323 : Int64))) + (((((j0 - (((j0.toUInt64 >>> ((1 : Int32).toInt64.toUInt64 &&& Int64.toUInt64 63)).toInt64) &&& (6148914691236517205 : Int64))) &&& (3689348814741910323 : Int64)) + ((((j0 - (((j0.toUInt64 >>> ((1 : Int32).toInt64.toUInt64 &&& Int64.toUInt64 63)).toInt64) &&& (6148914691236517205 : Int64))).toUInt64 >>> ((2 : Int32).toInt64.toUInt64 &&& Int64.toUInt64 63)).toInt64) &&& (3689348814741910323 : Int64))).toUInt64 >>> ((4 : Int32).toInt64.toUInt64 &&& Int64.toUInt64 63)).toInt64)) &&& (1085102592571150095 : Int64)) + (((((((j0 - (((j0.toUInt64 >>> ((1 : Int32).toInt64.toUInt64 &&& Int64.toUInt64 63)).toInt64) &&& (6148914691236517205 : Int64))) &&& (3689348814741910323 : Int64)) + ((((j0 - (((j0.toUInt64 >>> ((1 : Int32).toInt64.toUInt64 &&& Int64.toUInt64 63)).toInt64) &&& (6148914691236517205 : Int64))).toUInt64 >>> ((2 : Int32).toInt64.toUInt64 &&& Int64.toUInt64 63)).toInt64) &&& (3689348814741910323 : Int64))) + (((((j0 - (((j0.toUInt64 >>> ((1 : Int32).toInt64.toUInt64 &&& Int64.toUInt64 63)).toInt64) &&& (6148914691236517205 : Int64))) &&& (3689348814741910323 : Int64)) + ((((j0 - (((j0.toUInt64 >>> ((1 : Int32).toInt64.toUInt64 &&& Int64.toUInt64 63)).toInt64) &&& (6148914691236517205 : Int64))).toUInt64 >>> ((2 : Int32).toInt64.toUInt64 &&& Int64.toUInt64 63)).toInt64) &&& (3689348814741910323 : Int64))).toUInt64 >>> ((4 : Int32).toInt64.toUInt64 &&& Int64.toUInt64 63)).toInt64)) &&& (1085102592571150095 : Int64)).toUInt64 >>> ((8 : Int32).toInt64.toUInt64 &&& Int64.toUInt64 63)).toInt64)).toUInt64 >>> ((16 : Int32).toInt64.toUInt64 &&& Int64.toUInt64 63)).toInt64)) + (((((((((j0 - (((j0.toUInt64 >>> ((1 : Int32).toInt64.toUInt64 &&& Int64.toUInt64 63)).toInt64) &&& (6148914691236517205 : Int64))) &&& (3689348814741910323 : Int64)) + ((((j0 - (((j0.toUInt64 >>> ((1 : Int32).toInt64.toUInt64 &&& Int64.toUInt64 63)).toInt64) &&& (6148914691236517205 : Int64))).toUInt64 >>> ((2 : Int32).toInt64.toUInt64 &&& Int64.toUInt64 63)).toInt64) &&& (3689348814741910323 : Int64))) + (((((j0 - (((j0.toUInt64 >>> ((1 : Int32).toInt64.toUInt64 &&& Int64.toUInt64 63)).toInt64) &&& (6148914691236517205 : Int64))) &&& (3689348814741910323 : Int64)) + ((((j0 - (((j0.toUInt64 >>> ((1 : Int32).toInt64.toUInt64 &&& Int64.toUInt64 63)).toInt64) &&& (6148914691236517205 : Int64))).toUInt64 >>> ((2 : Int32).toInt64.toUInt64 &&& Int64.toUInt64 63)).toInt64) &&& (3689348814741910323 : Int64))).toUInt64 >>> ((4 : Int32).toInt64.toUInt64 &&& Int64.toUInt64 63)).toInt64)) &&& (1085102592571150095 : Int64)) + (((((((j0 - (((j0.toUInt64 >>> ((1 : Int32).toInt64.toUInt64 &&& Int64.toUInt64 63)).toInt64) &&& (6148914691236517205 : Int64))) &&& (3689348814741910323 : Int64)) + ((((j0 - (((j0.toUInt64 >>> ((1 : Int32).toInt64.toUInt64 &&& Int64.toUInt64 63)).toInt64) &&& (6148914691236517205 : Int64))).toUInt64 >>> ((2 : Int32).toInt64.toUInt64 &&& Int64.toUInt64 63)).toInt64) &&& (3689348814741910323 : Int64))) + (((((j0 - (((j0.toUInt64 >>> ((1 : Int32).toInt64.toUInt64 &&& Int64.toUInt64 63)).toInt64) &&& (6148914691236517205 : Int64))) &&& (3689348814741910323 : Int64)) + ((((j0 - (((j0.toUInt64 >>> ((1 : Int32).toInt64.toUInt64 &&& Int64.toUInt64 63)).toInt64) &&& (6148914691236517205 : Int64))).toUInt64 >>> ((2 : Int32).toInt64.toUInt64 &&& Int64.toUInt64 63)).toInt64) &&& (3689348814741910323 : Int64))).toUInt64 >>> ((4 : Int32).toInt64.toUInt64 &&& Int64.toUInt64 63)).toInt64)) &&& (1085102592571150095 : Int64)).toUInt64 >>> ((8 : Int32).toInt64.toUInt64 &&& Int64.toUInt64 63)).toInt64)) + ((((((((j0 - (((j0.toUInt64 >>> ((1 : Int32).toInt64.toUInt64 &&& Int64.toUInt64 63)).toInt64) &&& (6148914691236517205 : Int64))) &&& (3689348814741910323 : Int64)) + ((((j0 - (((j0.toUInt64 >>> ((1 : Int32).toInt64.toUInt64 &&& Int64.toUInt64 63)).toInt64) &&& (6148914691236517205 : Int64))).toUInt64 >>> ((2 : Int32).toInt64.toUInt64 &&& Int64.toUInt64 63)).toInt64) &&& (3689348814741910323 : Int64))) + (((((j0 - (((j0.toUInt64 >>> ((1 : Int32).toInt64.toUInt64 &&& Int64.toUInt64 63)).toInt64) &&& (6148914691236517205 : Int64))) &&& (3689348814741910323 : Int64)) + ((((j0 - (((j0.toUInt64 >>> ((1 : Int32).toInt64.toUInt64 &&& Int64.toUInt64 63)).toInt64) &&& (6148914691236517205 : Int64))).toUInt64 >>> ((2 : Int32).toInt64.toUInt64 &&& Int64.toUInt64 63)).toInt64) &&& (3689348814741910323 : Int64))).toUInt64 >>> ((4 : Int32).toInt64.toUInt64 &&& Int64.toUInt64 63)).toInt64)) &&& (1085102592571150095 : Int64)) + (((((((j0 - (((j0.toUInt64 >>> ((1 : Int32).toInt64.toUInt64 &&& Int64.toUInt64 63)).toInt64) &&& (6148914691236517205 : Int64))) &&& (3689348814741910323 : Int64)) + ((((j0 - (((j0.toUInt64 >>> ((1 : Int32).toInt64.toUInt64 &&& Int64.toUInt64 63)).toInt64) &&& (6148914691236517205 : Int64))).toUInt64 >>> ((2 : Int32).toInt64.toUInt64 &&& Int64.toUInt64 63)).toInt64) &&& (3689348814741910323 : Int64))) + (((((j0 - (((j0.toUInt64 >>> ((1 : Int32).toInt64.toUInt64 &&& Int64.toUInt64 63)).toInt64) &&& (6148914691236517205 : Int64))) &&& (3689348814741910323 : Int64)) + ((((j0 - (((j0.toUInt64 >>> ((1 : Int32).toInt64.toUInt64 &&& Int64.toUInt64 63)).toInt64) &&& (6148914691236517205 : Int64))).toUInt64 >>> ((2 : Int32).toInt64.toUInt64 &&& Int64.toUInt64 63)).toInt64) &&& (3689348814741910323 : Int64))).toUInt64 >>> ((4 : Int32).toInt64.toUInt64 &&& Int64.toUInt64 63)).toInt64)) &&& (1085102592571150095 : Int64)).toUInt64 >>> ((8 : Int32).toInt64.toUInt64 &&& Int64.toUInt64 63)).toInt64)).toUInt64 >>> ((16 : Int32).toInt64.toUInt64 &&& Int64.toUInt64 63)).toInt64)).toUInt64 >>> ((32 : Int32).toInt64.toUInt64 &&& Int64.toUInt64 63)).toInt64)).toInt32) &&& (127 : Int32)) h
theorem sg_J31_bitCount : ySg yJ31_bitCount 1 = true := by decide +kernel
theorem c_J31_bitCount (G : gT) (l : Launch) (j0 : Int64) (h : Hp) (Q : Int32 → Hp → Prop) (hw : w_J31_bitCount j0 h Q) : Ct G l yJ31_bitCount (ws_ yJ31_bitCount cJ31_bitCount 2 (some .int)) 1 12 0 0 [.long j0] h (pI Q) := by
  refine Ct.of (own := RJ31) false (by decide +kernel) rfl (show (_ : Nat) ≤ _ from Nat.le_of_ble_eq_true rfl) (fun z => by cases z) (fun V C => ?_)
  show V h 0 0 0 [(0, .long j0)] []
  unfold w_J31_bitCount at hw
  refine r_lload_n C rfl 0 rfl dJ31_bitCount_0 (r_lload_n C rfl 0 rfl dJ31_bitCount_1 (r_iconst (v := (1 : Int32)) C (by decide) dJ31_bitCount_2 (r_lushr C dJ31_bitCount_3 (r_ldc2 (v := (6148914691236517205 : Int64)) C q1675 dJ31_bitCount_4 (r_land C dJ31_bitCount_7 ?_)))))
  refine r_lsub C dJ31_bitCount_8 (r_lstore_n (L' := [(0, .long (j0 - (((j0.toUInt64 >>> ((1 : Int32).toInt64.toUInt64 &&& Int64.toUInt64 63)).toInt64) &&& (6148914691236517205 : Int64))))]) C rfl (by decide) rfl dJ31_bitCount_9 (r_lload_n C rfl 0 rfl dJ31_bitCount_10 (r_ldc2 (v := (3689348814741910323 : Int64)) C q1676 dJ31_bitCount_11 (r_land C dJ31_bitCount_14 (r_lload_n C rfl 0 rfl dJ31_bitCount_15 ?_)))))
  refine r_iconst (v := (2 : Int32)) C (by decide) dJ31_bitCount_16 (r_lushr C dJ31_bitCount_17 (r_ldc2 (v := (3689348814741910323 : Int64)) C q1676 dJ31_bitCount_18 (r_land C dJ31_bitCount_21 (r_ladd C dJ31_bitCount_22 (r_lstore_n (L' := [(0, .long (((j0 - (((j0.toUInt64 >>> ((1 : Int32).toInt64.toUInt64 &&& Int64.toUInt64 63)).toInt64) &&& (6148914691236517205 : Int64))) &&& (3689348814741910323 : Int64)) + ((((j0 - (((j0.toUInt64 >>> ((1 : Int32).toInt64.toUInt64 &&& Int64.toUInt64 63)).toInt64) &&& (6148914691236517205 : Int64))).toUInt64 >>> ((2 : Int32).toInt64.toUInt64 &&& Int64.toUInt64 63)).toInt64) &&& (3689348814741910323 : Int64))))]) C rfl (by decide) rfl dJ31_bitCount_23 ?_)))))
  refine r_lload_n C rfl 0 rfl dJ31_bitCount_24 (r_lload_n C rfl 0 rfl dJ31_bitCount_25 (r_iconst (v := (4 : Int32)) C (by decide) dJ31_bitCount_26 (r_lushr C dJ31_bitCount_27 (r_ladd C dJ31_bitCount_28 (r_ldc2 (v := (1085102592571150095 : Int64)) C q1677 dJ31_bitCount_29 ?_)))))
  refine r_land C dJ31_bitCount_32 (r_lstore_n (L' := [(0, .long (((((j0 - (((j0.toUInt64 >>> ((1 : Int32).toInt64.toUInt64 &&& Int64.toUInt64 63)).toInt64) &&& (6148914691236517205 : Int64))) &&& (3689348814741910323 : Int64)) + ((((j0 - (((j0.toUInt64 >>> ((1 : Int32).toInt64.toUInt64 &&& Int64.toUInt64 63)).toInt64) &&& (6148914691236517205 : Int64))).toUInt64 >>> ((2 : Int32).toInt64.toUInt64 &&& Int64.toUInt64 63)).toInt64) &&& (3689348814741910323 : Int64))) + (((((j0 - (((j0.toUInt64 >>> ((1 : Int32).toInt64.toUInt64 &&& Int64.toUInt64 63)).toInt64) &&& (6148914691236517205 : Int64))) &&& (3689348814741910323 : Int64)) + ((((j0 - (((j0.toUInt64 >>> ((1 : Int32).toInt64.toUInt64 &&& Int64.toUInt64 63)).toInt64) &&& (6148914691236517205 : Int64))).toUInt64 >>> ((2 : Int32).toInt64.toUInt64 &&& Int64.toUInt64 63)).toInt64) &&& (3689348814741910323 : Int64))).toUInt64 >>> ((4 : Int32).toInt64.toUInt64 &&& Int64.toUInt64 63)).toInt64)) &&& (1085102592571150095 : Int64)))]) C rfl (by decide) rfl dJ31_bitCount_33 (r_lload_n C rfl 0 rfl dJ31_bitCount_34 (r_lload_n C rfl 0 rfl dJ31_bitCount_35 (r_bipush (v := (8 : Int32)) C (by decide) dJ31_bitCount_36 (r_lushr C dJ31_bitCount_38 ?_)))))
  refine r_ladd C dJ31_bitCount_39 (r_lstore_n (L' := [(0, .long ((((((j0 - (((j0.toUInt64 >>> ((1 : Int32).toInt64.toUInt64 &&& Int64.toUInt64 63)).toInt64) &&& (6148914691236517205 : Int64))) &&& (3689348814741910323 : Int64)) + ((((j0 - (((j0.toUInt64 >>> ((1 : Int32).toInt64.toUInt64 &&& Int64.toUInt64 63)).toInt64) &&& (6148914691236517205 : Int64))).toUInt64 >>> ((2 : Int32).toInt64.toUInt64 &&& Int64.toUInt64 63)).toInt64) &&& (3689348814741910323 : Int64))) + (((((j0 - (((j0.toUInt64 >>> ((1 : Int32).toInt64.toUInt64 &&& Int64.toUInt64 63)).toInt64) &&& (6148914691236517205 : Int64))) &&& (3689348814741910323 : Int64)) + ((((j0 - (((j0.toUInt64 >>> ((1 : Int32).toInt64.toUInt64 &&& Int64.toUInt64 63)).toInt64) &&& (6148914691236517205 : Int64))).toUInt64 >>> ((2 : Int32).toInt64.toUInt64 &&& Int64.toUInt64 63)).toInt64) &&& (3689348814741910323 : Int64))).toUInt64 >>> ((4 : Int32).toInt64.toUInt64 &&& Int64.toUInt64 63)).toInt64)) &&& (1085102592571150095 : Int64)) + (((((((j0 - (((j0.toUInt64 >>> ((1 : Int32).toInt64.toUInt64 &&& Int64.toUInt64 63)).toInt64) &&& (6148914691236517205 : Int64))) &&& (3689348814741910323 : Int64)) + ((((j0 - (((j0.toUInt64 >>> ((1 : Int32).toInt64.toUInt64 &&& Int64.toUInt64 63)).toInt64) &&& (6148914691236517205 : Int64))).toUInt64 >>> ((2 : Int32).toInt64.toUInt64 &&& Int64.toUInt64 63)).toInt64) &&& (3689348814741910323 : Int64))) + (((((j0 - (((j0.toUInt64 >>> ((1 : Int32).toInt64.toUInt64 &&& Int64.toUInt64 63)).toInt64) &&& (6148914691236517205 : Int64))) &&& (3689348814741910323 : Int64)) + ((((j0 - (((j0.toUInt64 >>> ((1 : Int32).toInt64.toUInt64 &&& Int64.toUInt64 63)).toInt64) &&& (6148914691236517205 : Int64))).toUInt64 >>> ((2 : Int32).toInt64.toUInt64 &&& Int64.toUInt64 63)).toInt64) &&& (3689348814741910323 : Int64))).toUInt64 >>> ((4 : Int32).toInt64.toUInt64 &&& Int64.toUInt64 63)).toInt64)) &&& (1085102592571150095 : Int64)).toUInt64 >>> ((8 : Int32).toInt64.toUInt64 &&& Int64.toUInt64 63)).toInt64)))]) C rfl (by decide) rfl dJ31_bitCount_40 (r_lload_n C rfl 0 rfl dJ31_bitCount_41 (r_lload_n C rfl 0 rfl dJ31_bitCount_42 (r_bipush (v := (16 : Int32)) C (by decide) dJ31_bitCount_43 (r_lushr C dJ31_bitCount_45 ?_)))))
  refine r_ladd C dJ31_bitCount_46 (r_lstore_n (L' := [(0, .long (((((((j0 - (((j0.toUInt64 >>> ((1 : Int32).toInt64.toUInt64 &&& Int64.toUInt64 63)).toInt64) &&& (6148914691236517205 : Int64))) &&& (3689348814741910323 : Int64)) + ((((j0 - (((j0.toUInt64 >>> ((1 : Int32).toInt64.toUInt64 &&& Int64.toUInt64 63)).toInt64) &&& (6148914691236517205 : Int64))).toUInt64 >>> ((2 : Int32).toInt64.toUInt64 &&& Int64.toUInt64 63)).toInt64) &&& (3689348814741910323 : Int64))) + (((((j0 - (((j0.toUInt64 >>> ((1 : Int32).toInt64.toUInt64 &&& Int64.toUInt64 63)).toInt64) &&& (6148914691236517205 : Int64))) &&& (3689348814741910323 : Int64)) + ((((j0 - (((j0.toUInt64 >>> ((1 : Int32).toInt64.toUInt64 &&& Int64.toUInt64 63)).toInt64) &&& (6148914691236517205 : Int64))).toUInt64 >>> ((2 : Int32).toInt64.toUInt64 &&& Int64.toUInt64 63)).toInt64) &&& (3689348814741910323 : Int64))).toUInt64 >>> ((4 : Int32).toInt64.toUInt64 &&& Int64.toUInt64 63)).toInt64)) &&& (1085102592571150095 : Int64)) + (((((((j0 - (((j0.toUInt64 >>> ((1 : Int32).toInt64.toUInt64 &&& Int64.toUInt64 63)).toInt64) &&& (6148914691236517205 : Int64))) &&& (3689348814741910323 : Int64)) + ((((j0 - (((j0.toUInt64 >>> ((1 : Int32).toInt64.toUInt64 &&& Int64.toUInt64 63)).toInt64) &&& (6148914691236517205 : Int64))).toUInt64 >>> ((2 : Int32).toInt64.toUInt64 &&& Int64.toUInt64 63)).toInt64) &&& (3689348814741910323 : Int64))) + (((((j0 - (((j0.toUInt64 >>> ((1 : Int32).toInt64.toUInt64 &&& Int64.toUInt64 63)).toInt64) &&& (6148914691236517205 : Int64))) &&& (3689348814741910323 : Int64)) + ((((j0 - (((j0.toUInt64 >>> ((1 : Int32).toInt64.toUInt64 &&& Int64.toUInt64 63)).toInt64) &&& (6148914691236517205 : Int64))).toUInt64 >>> ((2 : Int32).toInt64.toUInt64 &&& Int64.toUInt64 63)).toInt64) &&& (3689348814741910323 : Int64))).toUInt64 >>> ((4 : Int32).toInt64.toUInt64 &&& Int64.toUInt64 63)).toInt64)) &&& (1085102592571150095 : Int64)).toUInt64 >>> ((8 : Int32).toInt64.toUInt64 &&& Int64.toUInt64 63)).toInt64)) + ((((((((j0 - (((j0.toUInt64 >>> ((1 : Int32).toInt64.toUInt64 &&& Int64.toUInt64 63)).toInt64) &&& (6148914691236517205 : Int64))) &&& (3689348814741910323 : Int64)) + ((((j0 - (((j0.toUInt64 >>> ((1 : Int32).toInt64.toUInt64 &&& Int64.toUInt64 63)).toInt64) &&& (6148914691236517205 : Int64))).toUInt64 >>> ((2 : Int32).toInt64.toUInt64 &&& Int64.toUInt64 63)).toInt64) &&& (3689348814741910323 : Int64))) + (((((j0 - (((j0.toUInt64 >>> ((1 : Int32).toInt64.toUInt64 &&& Int64.toUInt64 63)).toInt64) &&& (6148914691236517205 : Int64))) &&& (3689348814741910323 : Int64)) + ((((j0 - (((j0.toUInt64 >>> ((1 : Int32).toInt64.toUInt64 &&& Int64.toUInt64 63)).toInt64) &&& (6148914691236517205 : Int64))).toUInt64 >>> ((2 : Int32).toInt64.toUInt64 &&& Int64.toUInt64 63)).toInt64) &&& (3689348814741910323 : Int64))).toUInt64 >>> ((4 : Int32).toInt64.toUInt64 &&& Int64.toUInt64 63)).toInt64)) &&& (1085102592571150095 : Int64)) + (((((((j0 - (((j0.toUInt64 >>> ((1 : Int32).toInt64.toUInt64 &&& Int64.toUInt64 63)).toInt64) &&& (6148914691236517205 : Int64))) &&& (3689348814741910323 : Int64)) + ((((j0 - (((j0.toUInt64 >>> ((1 : Int32).toInt64.toUInt64 &&& Int64.toUInt64 63)).toInt64) &&& (6148914691236517205 : Int64))).toUInt64 >>> ((2 : Int32).toInt64.toUInt64 &&& Int64.toUInt64 63)).toInt64) &&& (3689348814741910323 : Int64))) + (((((j0 - (((j0.toUInt64 >>> ((1 : Int32).toInt64.toUInt64 &&& Int64.toUInt64 63)).toInt64) &&& (6148914691236517205 : Int64))) &&& (3689348814741910323 : Int64)) + ((((j0 - (((j0.toUInt64 >>> ((1 : Int32).toInt64.toUInt64 &&& Int64.toUInt64 63)).toInt64) &&& (6148914691236517205 : Int64))).toUInt64 >>> ((2 : Int32).toInt64.toUInt64 &&& Int64.toUInt64 63)).toInt64) &&& (3689348814741910323 : Int64))).toUInt64 >>> ((4 : Int32).toInt64.toUInt64 &&& Int64.toUInt64 63)).toInt64)) &&& (1085102592571150095 : Int64)).toUInt64 >>> ((8 : Int32).toInt64.toUInt64 &&& Int64.toUInt64 63)).toInt64)).toUInt64 >>> ((16 : Int32).toInt64.toUInt64 &&& Int64.toUInt64 63)).toInt64)))]) C rfl (by decide) rfl dJ31_bitCount_47 (r_lload_n C rfl 0 rfl dJ31_bitCount_48 (r_lload_n C rfl 0 rfl dJ31_bitCount_49 (r_bipush (v := (32 : Int32)) C (by decide) dJ31_bitCount_50 (r_lushr C dJ31_bitCount_52 ?_)))))
  refine r_ladd C dJ31_bitCount_53 (r_lstore_n (L' := [(0, .long ((((((((j0 - (((j0.toUInt64 >>> ((1 : Int32).toInt64.toUInt64 &&& Int64.toUInt64 63)).toInt64) &&& (6148914691236517205 : Int64))) &&& (3689348814741910323 : Int64)) + ((((j0 - (((j0.toUInt64 >>> ((1 : Int32).toInt64.toUInt64 &&& Int64.toUInt64 63)).toInt64) &&& (6148914691236517205 : Int64))).toUInt64 >>> ((2 : Int32).toInt64.toUInt64 &&& Int64.toUInt64 63)).toInt64) &&& (3689348814741910323 : Int64))) + (((((j0 - (((j0.toUInt64 >>> ((1 : Int32).toInt64.toUInt64 &&& Int64.toUInt64 63)).toInt64) &&& (6148914691236517205 : Int64))) &&& (3689348814741910323 : Int64)) + ((((j0 - (((j0.toUInt64 >>> ((1 : Int32).toInt64.toUInt64 &&& Int64.toUInt64 63)).toInt64) &&& (6148914691236517205 : Int64))).toUInt64 >>> ((2 : Int32).toInt64.toUInt64 &&& Int64.toUInt64 63)).toInt64) &&& (3689348814741910323 : Int64))).toUInt64 >>> ((4 : Int32).toInt64.toUInt64 &&& Int64.toUInt64 63)).toInt64)) &&& (1085102592571150095 : Int64)) + (((((((j0 - (((j0.toUInt64 >>> ((1 : Int32).toInt64.toUInt64 &&& Int64.toUInt64 63)).toInt64) &&& (6148914691236517205 : Int64))) &&& (3689348814741910323 : Int64)) + ((((j0 - (((j0.toUInt64 >>> ((1 : Int32).toInt64.toUInt64 &&& Int64.toUInt64 63)).toInt64) &&& (6148914691236517205 : Int64))).toUInt64 >>> ((2 : Int32).toInt64.toUInt64 &&& Int64.toUInt64 63)).toInt64) &&& (3689348814741910323 : Int64))) + (((((j0 - (((j0.toUInt64 >>> ((1 : Int32).toInt64.toUInt64 &&& Int64.toUInt64 63)).toInt64) &&& (6148914691236517205 : Int64))) &&& (3689348814741910323 : Int64)) + ((((j0 - (((j0.toUInt64 >>> ((1 : Int32).toInt64.toUInt64 &&& Int64.toUInt64 63)).toInt64) &&& (6148914691236517205 : Int64))).toUInt64 >>> ((2 : Int32).toInt64.toUInt64 &&& Int64.toUInt64 63)).toInt64) &&& (3689348814741910323 : Int64))).toUInt64 >>> ((4 : Int32).toInt64.toUInt64 &&& Int64.toUInt64 63)).toInt64)) &&& (1085102592571150095 : Int64)).toUInt64 >>> ((8 : Int32).toInt64.toUInt64 &&& Int64.toUInt64 63)).toInt64)) + ((((((((j0 - (((j0.toUInt64 >>> ((1 : Int32).toInt64.toUInt64 &&& Int64.toUInt64 63)).toInt64) &&& (6148914691236517205 : Int64))) &&& (3689348814741910323 : Int64)) + ((((j0 - (((j0.toUInt64 >>> ((1 : Int32).toInt64.toUInt64 &&& Int64.toUInt64 63)).toInt64) &&& (6148914691236517205 : Int64))).toUInt64 >>> ((2 : Int32).toInt64.toUInt64 &&& Int64.toUInt64 63)).toInt64) &&& (3689348814741910323 : Int64))) + (((((j0 - (((j0.toUInt64 >>> ((1 : Int32).toInt64.toUInt64 &&& Int64.toUInt64 63)).toInt64) &&& (6148914691236517205 : Int64))) &&& (3689348814741910323 : Int64)) + ((((j0 - (((j0.toUInt64 >>> ((1 : Int32).toInt64.toUInt64 &&& Int64.toUInt64 63)).toInt64) &&& (6148914691236517205 : Int64))).toUInt64 >>> ((2 : Int32).toInt64.toUInt64 &&& Int64.toUInt64 63)).toInt64) &&& (3689348814741910323 : Int64))).toUInt64 >>> ((4 : Int32).toInt64.toUInt64 &&& Int64.toUInt64 63)).toInt64)) &&& (1085102592571150095 : Int64)) + (((((((j0 - (((j0.toUInt64 >>> ((1 : Int32).toInt64.toUInt64 &&& Int64.toUInt64 63)).toInt64) &&& (6148914691236517205 : Int64))) &&& (3689348814741910323 : Int64)) + ((((j0 - (((j0.toUInt64 >>> ((1 : Int32).toInt64.toUInt64 &&& Int64.toUInt64 63)).toInt64) &&& (6148914691236517205 : Int64))).toUInt64 >>> ((2 : Int32).toInt64.toUInt64 &&& Int64.toUInt64 63)).toInt64) &&& (3689348814741910323 : Int64))) + (((((j0 - (((j0.toUInt64 >>> ((1 : Int32).toInt64.toUInt64 &&& Int64.toUInt64 63)).toInt64) &&& (6148914691236517205 : Int64))) &&& (3689348814741910323 : Int64)) + ((((j0 - (((j0.toUInt64 >>> ((1 : Int32).toInt64.toUInt64 &&& Int64.toUInt64 63)).toInt64) &&& (6148914691236517205 : Int64))).toUInt64 >>> ((2 : Int32).toInt64.toUInt64 &&& Int64.toUInt64 63)).toInt64) &&& (3689348814741910323 : Int64))).toUInt64 >>> ((4 : Int32).toInt64.toUInt64 &&& Int64.toUInt64 63)).toInt64)) &&& (1085102592571150095 : Int64)).toUInt64 >>> ((8 : Int32).toInt64.toUInt64 &&& Int64.toUInt64 63)).toInt64)).toUInt64 >>> ((16 : Int32).toInt64.toUInt64 &&& Int64.toUInt64 63)).toInt64)) + (((((((((j0 - (((j0.toUInt64 >>> ((1 : Int32).toInt64.toUInt64 &&& Int64.toUInt64 63)).toInt64) &&& (6148914691236517205 : Int64))) &&& (3689348814741910323 : Int64)) + ((((j0 - (((j0.toUInt64 >>> ((1 : Int32).toInt64.toUInt64 &&& Int64.toUInt64 63)).toInt64) &&& (6148914691236517205 : Int64))).toUInt64 >>> ((2 : Int32).toInt64.toUInt64 &&& Int64.toUInt64 63)).toInt64) &&& (3689348814741910323 : Int64))) + (((((j0 - (((j0.toUInt64 >>> ((1 : Int32).toInt64.toUInt64 &&& Int64.toUInt64 63)).toInt64) &&& (6148914691236517205 : Int64))) &&& (3689348814741910323 : Int64)) + ((((j0 - (((j0.toUInt64 >>> ((1 : Int32).toInt64.toUInt64 &&& Int64.toUInt64 63)).toInt64) &&& (6148914691236517205 : Int64))).toUInt64 >>> ((2 : Int32).toInt64.toUInt64 &&& Int64.toUInt64 63)).toInt64) &&& (3689348814741910323 : Int64))).toUInt64 >>> ((4 : Int32).toInt64.toUInt64 &&& Int64.toUInt64 63)).toInt64)) &&& (1085102592571150095 : Int64)) + (((((((j0 - (((j0.toUInt64 >>> ((1 : Int32).toInt64.toUInt64 &&& Int64.toUInt64 63)).toInt64) &&& (6148914691236517205 : Int64))) &&& (3689348814741910323 : Int64)) + ((((j0 - (((j0.toUInt64 >>> ((1 : Int32).toInt64.toUInt64 &&& Int64.toUInt64 63)).toInt64) &&& (6148914691236517205 : Int64))).toUInt64 >>> ((2 : Int32).toInt64.toUInt64 &&& Int64.toUInt64 63)).toInt64) &&& (3689348814741910323 : Int64))) + (((((j0 - (((j0.toUInt64 >>> ((1 : Int32).toInt64.toUInt64 &&& Int64.toUInt64 63)).toInt64) &&& (6148914691236517205 : Int64))) &&& (3689348814741910323 : Int64)) + ((((j0 - (((j0.toUInt64 >>> ((1 : Int32).toInt64.toUInt64 &&& Int64.toUInt64 63)).toInt64) &&& (6148914691236517205 : Int64))).toUInt64 >>> ((2 : Int32).toInt64.toUInt64 &&& Int64.toUInt64 63)).toInt64) &&& (3689348814741910323 : Int64))).toUInt64 >>> ((4 : Int32).toInt64.toUInt64 &&& Int64.toUInt64 63)).toInt64)) &&& (1085102592571150095 : Int64)).toUInt64 >>> ((8 : Int32).toInt64.toUInt64 &&& Int64.toUInt64 63)).toInt64)) + ((((((((j0 - (((j0.toUInt64 >>> ((1 : Int32).toInt64.toUInt64 &&& Int64.toUInt64 63)).toInt64) &&& (6148914691236517205 : Int64))) &&& (3689348814741910323 : Int64)) + ((((j0 - (((j0.toUInt64 >>> ((1 : Int32).toInt64.toUInt64 &&& Int64.toUInt64 63)).toInt64) &&& (6148914691236517205 : Int64))).toUInt64 >>> ((2 : Int32).toInt64.toUInt64 &&& Int64.toUInt64 63)).toInt64) &&& (3689348814741910323 : Int64))) + (((((j0 - (((j0.toUInt64 >>> ((1 : Int32).toInt64.toUInt64 &&& Int64.toUInt64 63)).toInt64) &&& (6148914691236517205 : Int64))) &&& (3689348814741910323 : Int64)) + ((((j0 - (((j0.toUInt64 >>> ((1 : Int32).toInt64.toUInt64 &&& Int64.toUInt64 63)).toInt64) &&& (6148914691236517205 : Int64))).toUInt64 >>> ((2 : Int32).toInt64.toUInt64 &&& Int64.toUInt64 63)).toInt64) &&& (3689348814741910323 : Int64))).toUInt64 >>> ((4 : Int32).toInt64.toUInt64 &&& Int64.toUInt64 63)).toInt64)) &&& (1085102592571150095 : Int64)) + (((((((j0 - (((j0.toUInt64 >>> ((1 : Int32).toInt64.toUInt64 &&& Int64.toUInt64 63)).toInt64) &&& (6148914691236517205 : Int64))) &&& (3689348814741910323 : Int64)) + ((((j0 - (((j0.toUInt64 >>> ((1 : Int32).toInt64.toUInt64 &&& Int64.toUInt64 63)).toInt64) &&& (6148914691236517205 : Int64))).toUInt64 >>> ((2 : Int32).toInt64.toUInt64 &&& Int64.toUInt64 63)).toInt64) &&& (3689348814741910323 : Int64))) + (((((j0 - (((j0.toUInt64 >>> ((1 : Int32).toInt64.toUInt64 &&& Int64.toUInt64 63)).toInt64) &&& (6148914691236517205 : Int64))) &&& (3689348814741910323 : Int64)) + ((((j0 - (((j0.toUInt64 >>> ((1 : Int32).toInt64.toUInt64 &&& Int64.toUInt64 63)).toInt64) &&& (6148914691236517205 : Int64))).toUInt64 >>> ((2 : Int32).toInt64.toUInt64 &&& Int64.toUInt64 63)).toInt64) &&& (3689348814741910323 : Int64))).toUInt64 >>> ((4 : Int32).toInt64.toUInt64 &&& Int64.toUInt64 63)).toInt64)) &&& (1085102592571150095 : Int64)).toUInt64 >>> ((8 : Int32).toInt64.toUInt64 &&& Int64.toUInt64 63)).toInt64)).toUInt64 >>> ((16 : Int32).toInt64.toUInt64 &&& Int64.toUInt64 63)).toInt64)).toUInt64 >>> ((32 : Int32).toInt64.toUInt64 &&& Int64.toUInt64 63)).toInt64)))]) C rfl (by decide) rfl dJ31_bitCount_54 (r_lload_n C rfl 0 rfl dJ31_bitCount_55 (r_l2i C dJ31_bitCount_56 (r_bipush (v := (127 : Int32)) C (by decide) dJ31_bitCount_57 (r_iand C dJ31_bitCount_59 ?_)))))
  exact r_ireturn C dJ31_bitCount_60 (Nat.le_refl _) (Nat.le_refl _) ⟨_, rfl, hw⟩
def w_J31_numberOfLeadingZeros (j0 : Int64) (h : Hp) (Q : Int32 → Hp → Prop) : Prop :=
  (¬ (((j0.toUInt64 >>> ((32 : Int32).toInt64.toUInt64 &&& Int64.toUInt64 63)).toInt64).toInt32) = 0 → w_J24_numberOfLeadingZeros (((j0.toUInt64 >>> ((32 : Int32).toInt64.toUInt64 &&& Int64.toUInt64 63)).toInt64).toInt32) h (fun r2 h3 => Q r2 h3)) ∧ ((((j0.toUInt64 >>> ((32 : Int32).toInt64.toUInt64 &&& Int64.toUInt64 63)).toInt64).toInt32) = 0 → w_J24_numberOfLeadingZeros j0.toInt32 h (fun r4 h5 => Q ((32 : Int32) + r4) h5))
theorem sg_J31_numberOfLeadingZeros : ySg yJ31_numberOfLeadingZeros 1 = true := by decide +kernel
theorem c_J31_numberOfLeadingZeros (G : gT) (l : Launch) (j0 : Int64) (h : Hp) (Q : Int32 → Hp → Prop) (hw : w_J31_numberOfLeadingZeros j0 h Q) : Ct G l yJ31_numberOfLeadingZeros (ws_ yJ31_numberOfLeadingZeros cJ31_numberOfLeadingZeros 3 (some .int)) 2 33 0 0 [.long j0] h (pI Q) := by
  refine Ct.of (own := RJ31) false (by decide +kernel) rfl (show (_ : Nat) ≤ _ from Nat.le_of_ble_eq_true rfl) (fun z => by cases z) (fun V C => ?_)
  show V h 0 0 0 [(0, .long j0)] []
  unfold w_J31_numberOfLeadingZeros at hw
  refine r_lload_n C rfl 0 rfl dJ31_numberOfLeadingZeros_0 (r_bipush (v := (32 : Int32)) C (by decide) dJ31_numberOfLeadingZeros_1 (r_lushr C dJ31_numberOfLeadingZeros_3 (r_l2i C dJ31_numberOfLeadingZeros_4 (r_istore_n (L' := [(2, .int (((j0.toUInt64 >>> ((32 : Int32).toInt64.toUInt64 &&& Int64.toUInt64 63)).toInt64).toInt32)), (0, .long j0)]) C rfl (by decide) rfl dJ31_numberOfLeadingZeros_5 (r_iload_n C rfl 0 rfl dJ31_numberOfLeadingZeros_6 ?_)))))
  refine r_if_ne (tgt := 21) C (by decide) dJ31_numberOfLeadingZeros_7 (fun hc1 => ?_) (fun hc1 => ?_)
  · have hw := hw.1 hc1
    refine r_iload_n C rfl 0 rfl dJ31_numberOfLeadingZeros_21 ?_
    refine r_callS (rest := []) (As := [.int (((j0.toUInt64 >>> ((32 : Int32).toInt64.toUInt64 &&& Int64.toUInt64 63)).toInt64).toInt32)]) C sg_J24_numberOfLeadingZeros q1665 q1666 q105 q1667 rfl (Nat.le_of_ble_eq_true rfl) dJ31_numberOfLeadingZeros_22 rfl (Nat.le_refl _) (Nat.le_refl _) (c_J24_numberOfLeadingZeros G l (((j0.toUInt64 >>> ((32 : Int32).toInt64.toUInt64 &&& Int64.toUInt64 63)).toInt64).toInt32) h _ hw) (k_I (fun r2 h3 hw => ?_))
    exact r_ireturn C dJ31_numberOfLeadingZeros_25 (Nat.le_refl _) (Nat.le_refl _) ⟨_, rfl, hw⟩
  · have hw := hw.2 hc1
    refine r_bipush (v := (32 : Int32)) C (by decide) dJ31_numberOfLeadingZeros_10 (r_lload_n C rfl 1 rfl dJ31_numberOfLeadingZeros_12 (r_l2i C dJ31_numberOfLeadingZeros_13 ?_))
    refine r_callS (rest := [.int (32 : Int32)]) (As := [.int j0.toInt32]) C sg_J24_numberOfLeadingZeros q1665 q1666 q105 q1667 rfl (Nat.le_of_ble_eq_true rfl) dJ31_numberOfLeadingZeros_14 rfl (Nat.le_refl _) (Nat.le_refl _) (c_J24_numberOfLeadingZeros G l j0.toInt32 h _ hw) (k_I (fun r4 h5 hw => ?_))
    refine r_iadd C dJ31_numberOfLeadingZeros_17 (r_goto (tgt := 25) C (by decide) dJ31_numberOfLeadingZeros_18 ?_)
    exact r_ireturn C dJ31_numberOfLeadingZeros_25 (Nat.le_refl _) (Nat.le_refl _) ⟨_, rfl, hw⟩
def w_J31_numberOfTrailingZeros (j0 : Int64) (h : Hp) (Q : Int32 → Hp → Prop) : Prop :=
  (¬ j0.toInt32 = 0 → w_J24_numberOfTrailingZeros j0.toInt32 h (fun r2 h3 => Q r2 h3)) ∧ (j0.toInt32 = 0 → w_J24_numberOfTrailingZeros (((j0.toUInt64 >>> ((32 : Int32).toInt64.toUInt64 &&& Int64.toUInt64 63)).toInt64).toInt32) h (fun r4 h5 => Q ((32 : Int32) + r4) h5))
theorem sg_J31_numberOfTrailingZeros : ySg yJ31_numberOfTrailingZeros 1 = true := by decide +kernel
theorem c_J31_numberOfTrailingZeros (G : gT) (l : Launch) (j0 : Int64) (h : Hp) (Q : Int32 → Hp → Prop) (hw : w_J31_numberOfTrailingZeros j0 h Q) : Ct G l yJ31_numberOfTrailingZeros (ws_ yJ31_numberOfTrailingZeros cJ31_numberOfTrailingZeros 3 (some .int)) 2 33 0 0 [.long j0] h (pI Q) := by
  refine Ct.of (own := RJ31) false (by decide +kernel) rfl (show (_ : Nat) ≤ _ from Nat.le_of_ble_eq_true rfl) (fun z => by cases z) (fun V C => ?_)
  show V h 0 0 0 [(0, .long j0)] []
  unfold w_J31_numberOfTrailingZeros at hw
  refine r_lload_n C rfl 0 rfl dJ31_numberOfTrailingZeros_0 (r_l2i C dJ31_numberOfTrailingZeros_1 (r_istore_n (L' := [(2, .int j0.toInt32), (0, .long j0)]) C rfl (by decide) rfl dJ31_numberOfTrailingZeros_2 (r_iload_n C rfl 0 rfl dJ31_numberOfTrailingZeros_3 ?_)))
  refine r_if_ne (tgt := 21) C (by decide) dJ31_numberOfTrailingZeros_4 (fun hc1 => ?_) (fun hc1 => ?_)
  · have hw := hw.1 hc1
    refine r_iload_n C rfl 0 rfl dJ31_numberOfTrailingZeros_21 ?_
    refine r_callS (rest := []) (As := [.int j0.toInt32]) C sg_J24_numberOfTrailingZeros q1572 q1573 q105 q1574 rfl (Nat.le_of_ble_eq_true rfl) dJ31_numberOfTrailingZeros_22 rfl (Nat.le_refl _) (Nat.le_refl _) (c_J24_numberOfTrailingZeros G l j0.toInt32 h _ hw) (k_I (fun r2 h3 hw => ?_))
    exact r_ireturn C dJ31_numberOfTrailingZeros_25 (Nat.le_refl _) (Nat.le_refl _) ⟨_, rfl, hw⟩
  · have hw := hw.2 hc1
    refine r_bipush (v := (32 : Int32)) C (by decide) dJ31_numberOfTrailingZeros_7 (r_lload_n C rfl 1 rfl dJ31_numberOfTrailingZeros_9 (r_bipush (v := (32 : Int32)) C (by decide) dJ31_numberOfTrailingZeros_10 (r_lushr C dJ31_numberOfTrailingZeros_12 (r_l2i C dJ31_numberOfTrailingZeros_13 ?_))))
    refine r_callS (rest := [.int (32 : Int32)]) (As := [.int (((j0.toUInt64 >>> ((32 : Int32).toInt64.toUInt64 &&& Int64.toUInt64 63)).toInt64).toInt32)]) C sg_J24_numberOfTrailingZeros q1572 q1573 q105 q1574 rfl (Nat.le_of_ble_eq_true rfl) dJ31_numberOfTrailingZeros_14 rfl (Nat.le_refl _) (Nat.le_refl _) (c_J24_numberOfTrailingZeros G l (((j0.toUInt64 >>> ((32 : Int32).toInt64.toUInt64 &&& Int64.toUInt64 63)).toInt64).toInt32) h _ hw) (k_I (fun r4 h5 hw => ?_))
    refine r_iadd C dJ31_numberOfTrailingZeros_17 (r_goto (tgt := 25) C (by decide) dJ31_numberOfTrailingZeros_18 ?_)
    exact r_ireturn C dJ31_numberOfTrailingZeros_25 (Nat.le_refl _) (Nat.le_refl _) ⟨_, rfl, hw⟩
def w_J0_init (a0 : Nat) (h : Hp) (Q : Hp → Prop) : Prop :=
  Q h
theorem sg_J0_init : ySg yJ0_init 0 = true := by decide +kernel
theorem c_J0_init (G : gT) (l : Launch) (a0 : Nat) (h : Hp) (Q : Hp → Prop) (hw : w_J0_init a0 h Q) : Ct G l yJ0_init (ws_ yJ0_init cJ0_init 1 (none)) 1 12 0 0 [.ref a0] h (pV Q) := by
  refine Ct.of (own := RJ0) true (by decide +kernel) rfl (show (_ : Nat) ≤ _ from Nat.le_of_ble_eq_true rfl) (fun _ => rfl) (fun V C => ?_)
  show V h 0 0 0 [(0, .ref a0)] []
  unfold w_J0_init at hw
  refine r_aload_n C rfl 0 rfl dJ0_init_0 ?_
  refine r_objInit C q147 q128 q129 (by decide) (by decide) dJ0_init_1 ?_
  exact r_return C dJ0_init_4 (Nat.le_refl _) (Nat.le_refl _) ⟨rfl, hw⟩
def w_J1_initA (a0 : Nat) (h : Hp) (Q : Hp → Prop) : Prop :=
  w_J0_init a0 h (fun h2 => pf h2 a0 8 0 (.int (0 : Int32)) (fun h3 => Q h3))
theorem sg_J1_init : ySg yJ1_init 0 = true := by decide +kernel
theorem c_J1_initA (G : gT) (l : Launch) (a0 : Nat) (h : Hp) (Q : Hp → Prop) (hw : w_J1_initA a0 h Q) : Ct G l yJ1_init (ws_ yJ1_init cJ1_init 1 (none)) 2 32 0 0 [.ref a0] h (pV Q) := by
  refine Ct.of (own := RJ1) true (by decide +kernel) rfl (show (_ : Nat) ≤ _ from Nat.le_of_ble_eq_true rfl) (fun _ => rfl) (fun V C => ?_)
  show V h 0 0 0 [(0, .ref a0)] []
  unfold w_J1_initA at hw
  refine r_aload_n C rfl 0 rfl dJ1_init_0 ?_
  refine r_callI (rest := []) (As := []) C sg_J0_init rfl q144 q145 q79 q146 rfl (Nat.le_of_ble_eq_true rfl) dJ1_init_1 rfl (Nat.le_refl _) (Nat.le_refl _) (c_J0_init G l a0 h _ hw) (k_V (fun h2 hw => ?_))
  refine r_aload_n C rfl 0 rfl dJ1_init_4 (r_iconst (v := (0 : Int32)) C (by decide) dJ1_init_5 ?_)
  refine r_pf (k := 0) (v := .int (0 : Int32)) C kJ2 (by decide) (Or.inl q154) (Or.inl rfl) (Or.inl rfl) rfl rfl dJ1_init_6 hw (fun h3 hw => ?_)
  exact r_return C dJ1_init_9 (Nat.le_refl _) (Nat.le_refl _) ⟨rfl, hw⟩
def w_J1_initL (a0 : Nat) (h : Hp) (Q : Hp → Prop) : Prop :=
  w_J0_init a0 h (fun h2 => pf h2 a0 9 0 (.int (0 : Int32)) (fun h3 => Q h3))
theorem c_J1_initL (G : gT) (l : Launch) (a0 : Nat) (h : Hp) (Q : Hp → Prop) (hw : w_J1_initL a0 h Q) : Ct G l yJ1_init (ws_ yJ1_init cJ1_init 1 (none)) 2 32 0 0 [.ref a0] h (pV Q) := by
  refine Ct.of (own := RJ1) true (by decide +kernel) rfl (show (_ : Nat) ≤ _ from Nat.le_of_ble_eq_true rfl) (fun _ => rfl) (fun V C => ?_)
  show V h 0 0 0 [(0, .ref a0)] []
  unfold w_J1_initL at hw
  refine r_aload_n C rfl 0 rfl dJ1_init_0 ?_
  refine r_callI (rest := []) (As := []) C sg_J0_init rfl q144 q145 q79 q146 rfl (Nat.le_of_ble_eq_true rfl) dJ1_init_1 rfl (Nat.le_refl _) (Nat.le_refl _) (c_J0_init G l a0 h _ hw) (k_V (fun h2 hw => ?_))
  refine r_aload_n C rfl 0 rfl dJ1_init_4 (r_iconst (v := (0 : Int32)) C (by decide) dJ1_init_5 ?_)
  refine r_pf (k := 0) (v := .int (0 : Int32)) C kJ4 (by decide) (Or.inl q154) (Or.inl rfl) (Or.inl rfl) rfl rfl dJ1_init_6 hw (fun h3 hw => ?_)
  exact r_return C dJ1_init_9 (Nat.le_refl _) (Nat.le_refl _) ⟨rfl, hw⟩
def w_J4_isPositionIndex (a0 : Nat) (i1 : Int32) (h : Hp) (Q : Bool → Hp → Prop) : Prop :=
  (i1 < 0 → Q false h) ∧ (¬ i1 < 0 → gfI h a0 9 1 (fun v2 => Q (if v2 < i1 then false else true) h))
theorem sg_J4_isPositionIndex : ySg yJ4_isPositionIndex 1 = true := by decide +kernel
theorem c_J4_isPositionIndex (G : gT) (l : Launch) (a0 : Nat) (i1 : Int32) (h : Hp) (Q : Bool → Hp → Prop) (hw : w_J4_isPositionIndex a0 i1 h Q) : Ct G l yJ4_isPositionIndex (ws_ yJ4_isPositionIndex cJ4_isPositionIndex 2 (some .boolean)) 1 12 0 0 [.ref a0, .int i1] h (pZ Q) := by
  refine Ct.of (own := RJ4) false (by decide +kernel) rfl (show (_ : Nat) ≤ _ from Nat.le_of_ble_eq_true rfl) (fun z => by cases z) (fun V C => ?_)
  show V h 0 0 0 [(0, .ref a0), (1, .int i1)] []
  unfold w_J4_isPositionIndex at hw
  refine r_iload_n C rfl 1 rfl dJ4_isPositionIndex_0 ?_
  refine r_if_lt (tgt := 16) C (by decide) dJ4_isPositionIndex_1 (fun hc1 => ?_) (fun hc1 => ?_)
  · have hw := hw.1 hc1
    refine r_iconst (v := (0 : Int32)) C (by decide) dJ4_isPositionIndex_16 ?_
    exact r_zreturn (x := false) C dJ4_isPositionIndex_17 (Nat.le_refl _) (Nat.le_refl _) ⟨_, rfl, hw⟩
  · have hw := hw.2 hc1
    refine r_iload_n C rfl 1 rfl dJ4_isPositionIndex_4 (r_aload_n C rfl 0 rfl dJ4_isPositionIndex_5 ?_)
    refine r_gfI (k := 1) C kJ4 (by decide) (Or.inl q178) (Or.inl rfl) dJ4_isPositionIndex_6 hw (fun v2 hw => ?_)
    have hJ : V h 0 0 17 [] [.int (bI (if v2 < i1 then false else true))] := by
      exact r_zreturn (x := (if v2 < i1 then false else true)) C dJ4_isPositionIndex_17 (Nat.le_refl _) (Nat.le_refl _) ⟨_, rfl, hw⟩
    refine r_icmp_gt (tgt := 16) C (by decide) dJ4_isPositionIndex_9 (fun hc3 => ?_) (fun hc3 => ?_)
    · have hJ4 := hJ
      try simp only [if_pos hc3] at hJ4
      refine r_iconst (v := (0 : Int32)) C (by decide) dJ4_isPositionIndex_16 ?_
      exact r_sub C [] rfl hJ4
    · have hJ4 := hJ
      try simp only [if_neg hc3] at hJ4
      refine r_iconst (v := (1 : Int32)) C (by decide) dJ4_isPositionIndex_12 (r_goto (tgt := 17) C (by decide) dJ4_isPositionIndex_13 ?_)
      exact r_sub C [] rfl hJ4
def w_J4_checkPositionIndex (a0 : Nat) (i1 : Int32) (h : Hp) (Q : Hp → Prop) : Prop :=
  hasC h a0 9 ∧ (w_J4_isPositionIndex a0 i1 h (fun r2 h3 => (r2 = true → Q h3) ∧ (r2 = false → False)))
theorem sg_J4_checkPositionIndex : ySg yJ4_checkPositionIndex 1 = true := by decide +kernel
theorem c_J4_checkPositionIndex (G : gT) (l : Launch) (a0 : Nat) (i1 : Int32) (h : Hp) (Q : Hp → Prop) (hw : w_J4_checkPositionIndex a0 i1 h Q) : Ct G l yJ4_checkPositionIndex (ws_ yJ4_checkPositionIndex cJ4_checkPositionIndex 2 (none)) 2 33 0 0 [.ref a0, .int i1] h (pV Q) := by
  refine Ct.of (own := RJ4) false (by decide +kernel) rfl (show (_ : Nat) ≤ _ from Nat.le_of_ble_eq_true rfl) (fun z => by cases z) (fun V C => ?_)
  show V h 0 0 0 [(0, .ref a0), (1, .int i1)] []
  unfold w_J4_checkPositionIndex at hw
  refine r_aload_n C rfl 0 rfl dJ4_checkPositionIndex_0 (r_iload_n C rfl 1 rfl dJ4_checkPositionIndex_1 ?_)
  obtain ⟨hq1, hw⟩ := hw
  refine r_callV (ci := 9) (rest := []) (As := [.int i1]) C sg_J4_isPositionIndex rfl rfl q1132 q1134 qs22 q83 q1135 rfl (Nat.le_of_ble_eq_true rfl) dJ4_checkPositionIndex_2 rfl hq1 (Nat.le_refl _) (Nat.le_refl _) (c_J4_isPositionIndex G l a0 i1 h _ hw) (k_Z (fun r2 h3 hw => ?_))
  refine r_if_ne_b (tgt := 21) C (by decide) dJ4_checkPositionIndex_5 (fun hc4 => ?_) (fun hc4 => ?_)
  · have hw := hw.1 hc4
    exact r_return C dJ4_checkPositionIndex_21 (Nat.le_refl _) (Nat.le_refl _) ⟨rfl, hw⟩
  · have hw := hw.2 hc4
    exact hw.elim
def S_J4_node_17 (Q : Option Nat → Hp → Prop) (LA17 : Hp → Int32 → (Option Nat) → Int32 → Prop) (h : Hp) (x1 : Int32) (x2 : Option Nat) (x3 : Int32) : Prop :=
  (x1 ≤ x3 → Q x2 h) ∧ (¬ x1 ≤ x3 → nn x2 (fun y2 => gfR h y2 10 1 (fun v3 => LA17 h x1 v3 (x3 + (1 : Int32)))))
def B_J4_node_17 (Q : Option Nat → Hp → Prop) : Nat → Hp → Int32 → (Option Nat) → Int32 → Prop
  | 0, _, _, _, _ => False
  | k + 1, h, x1, x2, x3 => S_J4_node_17 Q (B_J4_node_17 Q k) h x1 x2 x3
def S_J4_node_47 (Q : Option Nat → Hp → Prop) (LA47 : Hp → Int32 → (Option Nat) → Int32 → Prop) (h : Hp) (x1 : Int32) (x2 : Option Nat) (x3 : Int32) : Prop :=
  (x3 ≤ x1 → Q x2 h) ∧ (¬ x3 ≤ x1 → nn x2 (fun y5 => gfR h y5 10 2 (fun v6 => LA47 h x1 v6 (x3 + (-1 : Int32)))))
def B_J4_node_47 (Q : Option Nat → Hp → Prop) : Nat → Hp → Int32 → (Option Nat) → Int32 → Prop
  | 0, _, _, _, _ => False
  | k + 1, h, x1, x2, x3 => S_J4_node_47 Q (B_J4_node_47 Q k) h x1 x2 x3
def w_J4_node (a0 : Nat) (i1 : Int32) (h : Hp) (Q : Option Nat → Hp → Prop) : Prop :=
  gfI h a0 9 1 (fun v7 => ((v7 >>> ((1 : Int32) &&& 31)) ≤ i1 → gfR h a0 9 3 (fun v9 => gfI h a0 9 1 (fun v10 => ∃ k9 : Nat, B_J4_node_47 Q k9 h i1 v9 (v10 - (1 : Int32))))) ∧ (¬ (v7 >>> ((1 : Int32) &&& 31)) ≤ i1 → gfR h a0 9 2 (fun v11 => ∃ k9 : Nat, B_J4_node_17 Q k9 h i1 v11 (0 : Int32))))
theorem s_J4_node_17 {G : gT} {l : Launch} {V : Hp → Nat → Nat → Nat → List (Nat × Value) → List Value → Prop} {Q : Option Nat → Hp → Prop} (C : Cx G l V cJ4_node 4 RJ4 1 12 0 0 (pR Q) none (some (.object "java/util/LinkedList$Node")) [] false) (LA17 : Hp → Int32 → (Option Nat) → Int32 → Prop) (hLA17 : ∀ (h : Hp) (x1 : Int32) (x2 : Option Nat) (x3 : Int32), LA17 h x1 x2 x3 → V h 0 0 17 [(1, .int x1), (2, va_rf x2), (3, .int x3)] []) (h : Hp) (x1 : Int32) (x2 : Option Nat) (x3 : Int32) (hw : S_J4_node_17 Q LA17 h x1 x2 x3) : V h 0 0 17 [(1, .int x1), (2, va_rf x2), (3, .int x3)] [] := by
  unfold S_J4_node_17 at hw
  refine r_iload_n C rfl 2 rfl dJ4_node_17 (r_iload_n C rfl 0 rfl dJ4_node_18 ?_)
  refine r_icmp_ge (tgt := 33) C (by decide) dJ4_node_19 (fun hc1 => ?_) (fun hc1 => ?_)
  · have hw := hw.1 hc1
    refine r_aload_nO C rfl 1 rfl dJ4_node_33 ?_
    exact r_areturn (x := x2) C (by first | exact Or.inl ⟨_, rfl⟩ | exact Or.inr ⟨_, rfl⟩) dJ4_node_34 (Nat.le_refl _) (Nat.le_refl _) ⟨_, rfl, hw⟩
  · have hw := hw.2 hc1
    refine r_aload_nO C rfl 1 rfl dJ4_node_22 ?_
    obtain ⟨y2, rfl, hw_y2⟩ := hw
    have hw := hw_y2
    refine r_gfR (k := 1) C kJ8 (by decide) (Or.inl q291) (Or.inl rfl) dJ4_node_23 hw (fun v3 hw => ?_)
    refine r_astore_nO (x := v3) (L' := [(2, va_rf v3), (1, .int x1), (3, .int x3)]) C rfl (by decide) rfl dJ4_node_26 (r_iinc (v := x3 + (1 : Int32)) (L' := [(3, .int (x3 + (1 : Int32))), (2, va_rf v3), (1, .int x1)]) C (u := 2) rfl (by rfl) (by decide) (by rcases v3 with _ | _ <;> rfl) dJ4_node_27 (r_goto (tgt := 17) C (by decide) dJ4_node_30 ?_))
    exact r_sub C [2, 1, 0] rfl (hLA17 _ _ _ _ hw)
theorem b_J4_node_17 {G : gT} {l : Launch} {V : Hp → Nat → Nat → Nat → List (Nat × Value) → List Value → Prop} {Q : Option Nat → Hp → Prop} (C : Cx G l V cJ4_node 4 RJ4 1 12 0 0 (pR Q) none (some (.object "java/util/LinkedList$Node")) [] false) : ∀ (k : Nat) (h : Hp) (x1 : Int32) (x2 : Option Nat) (x3 : Int32), B_J4_node_17 Q k h x1 x2 x3 → V h 0 0 17 [(1, .int x1), (2, va_rf x2), (3, .int x3)] [] := by
  intro k
  induction k with
  | zero =>
    intro h x1 x2 x3 hw
    exact hw.elim
  | succ k ih =>
    intro h x1 x2 x3 hw
    exact s_J4_node_17 C _ (fun h x1 x2 x3 hw => ih h x1 x2 x3 hw) h x1 x2 x3 hw
theorem s_J4_node_47 {G : gT} {l : Launch} {V : Hp → Nat → Nat → Nat → List (Nat × Value) → List Value → Prop} {Q : Option Nat → Hp → Prop} (C : Cx G l V cJ4_node 4 RJ4 1 12 0 0 (pR Q) none (some (.object "java/util/LinkedList$Node")) [] false) (LA47 : Hp → Int32 → (Option Nat) → Int32 → Prop) (hLA47 : ∀ (h : Hp) (x1 : Int32) (x2 : Option Nat) (x3 : Int32), LA47 h x1 x2 x3 → V h 0 0 47 [(1, .int x1), (2, va_rf x2), (3, .int x3)] []) (h : Hp) (x1 : Int32) (x2 : Option Nat) (x3 : Int32) (hw : S_J4_node_47 Q LA47 h x1 x2 x3) : V h 0 0 47 [(1, .int x1), (2, va_rf x2), (3, .int x3)] [] := by
  unfold S_J4_node_47 at hw
  refine r_iload_n C rfl 2 rfl dJ4_node_47 (r_iload_n C rfl 0 rfl dJ4_node_48 ?_)
  refine r_icmp_le (tgt := 63) C (by decide) dJ4_node_49 (fun hc4 => ?_) (fun hc4 => ?_)
  · have hw := hw.1 hc4
    refine r_aload_nO C rfl 1 rfl dJ4_node_63 ?_
    exact r_areturn (x := x2) C (by first | exact Or.inl ⟨_, rfl⟩ | exact Or.inr ⟨_, rfl⟩) dJ4_node_64 (Nat.le_refl _) (Nat.le_refl _) ⟨_, rfl, hw⟩
  · have hw := hw.2 hc4
    refine r_aload_nO C rfl 1 rfl dJ4_node_52 ?_
    obtain ⟨y5, rfl, hw_y5⟩ := hw
    have hw := hw_y5
    refine r_gfR (k := 2) C kJ8 (by decide) (Or.inl q293) (Or.inl rfl) dJ4_node_53 hw (fun v6 hw => ?_)
    refine r_astore_nO (x := v6) (L' := [(2, va_rf v6), (1, .int x1), (3, .int x3)]) C rfl (by decide) rfl dJ4_node_56 (r_iinc (v := x3 + (-1 : Int32)) (L' := [(3, .int (x3 + (-1 : Int32))), (2, va_rf v6), (1, .int x1)]) C (u := 2) rfl (by rfl) (by decide) (by rcases v6 with _ | _ <;> rfl) dJ4_node_57 (r_goto (tgt := 47) C (by decide) dJ4_node_60 ?_))
    exact r_sub C [2, 1, 0] rfl (hLA47 _ _ _ _ hw)
theorem b_J4_node_47 {G : gT} {l : Launch} {V : Hp → Nat → Nat → Nat → List (Nat × Value) → List Value → Prop} {Q : Option Nat → Hp → Prop} (C : Cx G l V cJ4_node 4 RJ4 1 12 0 0 (pR Q) none (some (.object "java/util/LinkedList$Node")) [] false) : ∀ (k : Nat) (h : Hp) (x1 : Int32) (x2 : Option Nat) (x3 : Int32), B_J4_node_47 Q k h x1 x2 x3 → V h 0 0 47 [(1, .int x1), (2, va_rf x2), (3, .int x3)] [] := by
  intro k
  induction k with
  | zero =>
    intro h x1 x2 x3 hw
    exact hw.elim
  | succ k ih =>
    intro h x1 x2 x3 hw
    exact s_J4_node_47 C _ (fun h x1 x2 x3 hw => ih h x1 x2 x3 hw) h x1 x2 x3 hw
theorem sg_J4_node : ySg yJ4_node 1 = true := by decide +kernel
theorem c_J4_node (G : gT) (l : Launch) (a0 : Nat) (i1 : Int32) (h : Hp) (Q : Option Nat → Hp → Prop) (hw : w_J4_node a0 i1 h Q) : Ct G l yJ4_node (ws_ yJ4_node cJ4_node 4 (some (.object "java/util/LinkedList$Node"))) 1 12 0 0 [.ref a0, .int i1] h (pR Q) := by
  refine Ct.of (own := RJ4) false (by decide +kernel) rfl (show (_ : Nat) ≤ _ from Nat.le_of_ble_eq_true rfl) (fun z => by cases z) (fun V C => ?_)
  show V h 0 0 0 [(0, .ref a0), (1, .int i1)] []
  unfold w_J4_node at hw
  refine r_iload_n C rfl 1 rfl dJ4_node_0 (r_aload_n C rfl 0 rfl dJ4_node_1 ?_)
  refine r_gfI (k := 1) C kJ4 (by decide) (Or.inl q178) (Or.inl rfl) dJ4_node_2 hw (fun v7 hw => ?_)
  refine r_iconst (v := (1 : Int32)) C (by decide) dJ4_node_5 (r_ishr C dJ4_node_6 ?_)
  refine r_icmp_ge (tgt := 35) C (by decide) dJ4_node_7 (fun hc8 => ?_) (fun hc8 => ?_)
  · have hw := hw.1 hc8
    refine r_aload_n C rfl 0 rfl dJ4_node_35 ?_
    refine r_gfR (k := 3) C kJ4 (by decide) (Or.inl q181) (Or.inl rfl) dJ4_node_36 hw (fun v9 hw => ?_)
    refine r_astore_nO (x := v9) (L' := [(2, va_rf v9), (0, .ref a0), (1, .int i1)]) C rfl (by decide) rfl dJ4_node_39 (r_aload_n C rfl 1 rfl dJ4_node_40 ?_)
    refine r_gfI (k := 1) C kJ4 (by decide) (Or.inl q178) (Or.inl rfl) dJ4_node_41 hw (fun v10 hw => ?_)
    refine r_iconst (v := (1 : Int32)) C (by decide) dJ4_node_44 (r_isub C dJ4_node_45 (r_istore_n (L' := [(3, .int (v10 - (1 : Int32))), (2, va_rf v9), (0, .ref a0), (1, .int i1)]) C rfl (by decide) (by rcases v9 with _ | _ <;> rfl) dJ4_node_46 ?_))
    obtain ⟨k9, hw⟩ := hw
    exact r_sub C [3, 1, 0] rfl (b_J4_node_47 C _ _ _ _ _ hw)
  · have hw := hw.2 hc8
    refine r_aload_n C rfl 0 rfl dJ4_node_10 ?_
    refine r_gfR (k := 2) C kJ4 (by decide) (Or.inl q180) (Or.inl rfl) dJ4_node_11 hw (fun v11 hw => ?_)
    refine r_astore_nO (x := v11) (L' := [(2, va_rf v11), (0, .ref a0), (1, .int i1)]) C rfl (by decide) rfl dJ4_node_14 (r_iconst (v := (0 : Int32)) C (by decide) dJ4_node_15 (r_istore_n (L' := [(3, .int (0 : Int32)), (2, va_rf v11), (0, .ref a0), (1, .int i1)]) C rfl (by decide) (by rcases v11 with _ | _ <;> rfl) dJ4_node_16 ?_))
    obtain ⟨k9, hw⟩ := hw
    exact r_sub C [3, 1, 0] rfl (b_J4_node_17 C _ _ _ _ _ hw)
def B_J28_init_38 (Q : Hp → Prop) (h : Hp) (x0 : Nat) (x2 : Int32) (s0 : Nat) (s1 : Option Nat) : Prop :=
  pf h s0 14 1 (va_rf s1) (fun h1 => pf h1 x0 14 2 (.int x2) (fun h2 => Q h2))
def w_J28_init (a0 : Nat) (a1 : Nat) (i2 : Int32) (h : Hp) (Q : Hp → Prop) : Prop :=
  pf h a0 14 4 (.ref a1) (fun h3 => gfR h3 a0 14 4 (fun v4 => nn v4 (fun y5 => gfI h3 y5 9 0 (fun v6 => pf h3 a0 14 3 (.int v6) (fun h7 => gfI h7 a1 9 1 (fun v8 => (¬ i2 = v8 → hasC h7 a1 9 ∧ (w_J4_node a1 i2 h7 (fun r11 h12 => B_J28_init_38 Q h12 a0 i2 a0 r11))) ∧ (i2 = v8 → B_J28_init_38 Q h7 a0 i2 a0 none)))))))
theorem b_J28_init_38 {G : gT} {l : Launch} {V : Hp → Nat → Nat → Nat → List (Nat × Value) → List Value → Prop} {Q : Hp → Prop} (C : Cx G l V cJ28_init 3 RJ28 2 35 0 0 (pV Q) none (none) [] true) (h : Hp) (x0 : Nat) (x2 : Int32) (s0 : Nat) (s1 : Option Nat) (hw : B_J28_init_38 Q h x0 x2 s0 s1) : V h 0 0 38 [(0, .ref x0), (2, .int x2)] [va_rf s1, .ref s0] := by
  unfold B_J28_init_38 at hw
  refine r_pf (k := 1) (v := va_rf s1) C kJ28 (by decide) (Or.inl q1144) (Or.inl rfl) (Or.inl rfl) (n_rfO _ _) (f_rfO _ _) dJ28_init_38 hw (fun h1 hw => ?_)
  refine r_aload_n C rfl 0 rfl dJ28_init_41 (r_iload_n C rfl 1 rfl dJ28_init_42 ?_)
  refine r_pf (k := 2) (v := .int x2) C kJ28 (by decide) (Or.inl q1145) (Or.inl rfl) (Or.inl rfl) rfl rfl dJ28_init_43 hw (fun h2 hw => ?_)
  exact r_return C dJ28_init_46 (Nat.le_refl _) (Nat.le_refl _) ⟨rfl, hw⟩
theorem sg_J28_init : ySg yJ28_init 2 = true := by decide +kernel
theorem c_J28_init (G : gT) (l : Launch) (a0 : Nat) (a1 : Nat) (i2 : Int32) (h : Hp) (Q : Hp → Prop) (hw : w_J28_init a0 a1 i2 h Q) : Ct G l yJ28_init (ws_ yJ28_init cJ28_init 3 (none)) 2 35 0 0 [.ref a0, .ref a1, .int i2] h (pV Q) := by
  refine Ct.of (own := RJ28) true (by decide +kernel) rfl (show (_ : Nat) ≤ _ from Nat.le_of_ble_eq_true rfl) (fun _ => rfl) (fun V C => ?_)
  show V h 0 0 0 [(0, .ref a0), (1, .ref a1), (2, .int i2)] []
  unfold w_J28_init at hw
  refine r_aload_n C rfl 0 rfl dJ28_init_0 (r_aload_n C rfl 1 rfl dJ28_init_1 ?_)
  refine r_pf (k := 4) (v := .ref a1) C kJ28 (by decide) (Or.inl q1147) (Or.inl rfl) (Or.inr ⟨rfl, rfl, q1147⟩) rfl rfl dJ28_init_2 hw (fun h3 hw => ?_)
  refine r_aload_n C rfl 0 rfl dJ28_init_5 ?_
  refine r_objInit C q1141 q128 q129 (by decide) (by decide) dJ28_init_6 ?_
  refine r_aload_n C rfl 0 rfl dJ28_init_9 (r_aload_n C rfl 0 rfl dJ28_init_10 ?_)
  refine r_gfR (k := 4) C kJ28 (by decide) (Or.inl q1147) (Or.inl rfl) dJ28_init_11 hw (fun v4 hw => ?_)
  obtain ⟨y5, rfl, hw_y5⟩ := hw
  have hw := hw_y5
  refine r_gfI (k := 0) C kJ4 (by decide) (Or.inl q155) (Or.inr q156) dJ28_init_14 hw (fun v6 hw => ?_)
  refine r_pf (k := 3) (v := .int v6) C kJ28 (by decide) (Or.inl q1146) (Or.inl rfl) (Or.inl rfl) rfl rfl dJ28_init_17 hw (fun h7 hw => ?_)
  refine r_aload_n C rfl 0 rfl dJ28_init_20 (r_iload_n C rfl 2 rfl dJ28_init_21 (r_aload_n C rfl 1 rfl dJ28_init_22 ?_))
  refine r_gfI (k := 1) C kJ4 (by decide) (Or.inl q179) (Or.inl rfl) dJ28_init_23 hw (fun v8 hw => ?_)
  refine r_icmp_ne (tgt := 33) C (by decide) dJ28_init_26 (fun hc9 => ?_) (fun hc9 => ?_)
  · have hw := hw.1 hc9
    refine r_aload_n C rfl 1 rfl dJ28_init_33 (r_iload_n C rfl 2 rfl dJ28_init_34 ?_)
    obtain ⟨hq10, hw⟩ := hw
    refine r_callV (ci := 9) (rest := [.ref a0]) (As := [.int i2]) C sg_J4_node rfl rfl q1142 q800 q801 q83 q802 rfl (Nat.le_of_ble_eq_true rfl) dJ28_init_35 rfl hq10 (Nat.le_refl _) (Nat.le_refl _) (c_J4_node G l a1 i2 h7 _ hw) (k_R (fun r11 h12 hw => ?_))
    exact r_sub C [0, 2] rfl (b_J28_init_38 C _ _ _ _ _ hw)
  · have hw := hw.2 hc9
    refine r_null C dJ28_init_29 (r_goto (tgt := 38) C (by decide) dJ28_init_30 ?_)
    exact r_sub C [0, 2] rfl (b_J28_init_38 C _ _ _ _ _ hw)
def w_J4_listIterator (mc ms : Nat) (a0 : Nat) (i1 : Int32) (h : Hp) (Q : Option Nat → Hp → Prop) : Prop :=
  hasC h a0 9 ∧ (w_J4_checkPositionIndex a0 i1 h (fun h3 => 0 + 1 ≤ mc ∧ 0 + 5 ≤ ms ∧ (nwO h3 14 [.null, .null, .int 0, .int 0, .null] (fun q6 h7 => w_J28_init q6 a0 i1 h7 (fun h9 => Q (some q6) h9)))))
theorem sg_J4_listIterator : ySg yJ4_listIterator 1 = true := by decide +kernel
theorem c_J4_listIterator (G : gT) (l : Launch) (mc ms : Nat) (a0 : Nat) (i1 : Int32) (h : Hp) (Q : Option Nat → Hp → Prop) (hw : w_J4_listIterator mc ms a0 i1 h Q) : Ct G l yJ4_listIterator (ws_ yJ4_listIterator cJ4_listIterator 2 (some (.object "java/util/ListIterator"))) 3 57 mc ms [.ref a0, .int i1] h (pR Q) := by
  refine Ct.of (own := RJ4) false (by decide +kernel) rfl (show (_ : Nat) ≤ _ from Nat.le_of_ble_eq_true rfl) (fun z => by cases z) (fun V C => ?_)
  show V h 0 0 0 [(0, .ref a0), (1, .int i1)] []
  unfold w_J4_listIterator at hw
  refine r_aload_n C rfl 0 rfl dJ4_listIterator_0 (r_iload_n C rfl 1 rfl dJ4_listIterator_1 ?_)
  obtain ⟨hq1, hw⟩ := hw
  refine r_callV (ci := 9) (rest := []) (As := [.int i1]) C sg_J4_checkPositionIndex rfl rfl q1128 q1130 qs21 q83 q1131 rfl (Nat.le_of_ble_eq_true rfl) dJ4_listIterator_2 rfl hq1 (Nat.zero_le _) (Nat.zero_le _) (c_J4_checkPositionIndex G l a0 i1 h _ hw) (k_V (fun h3 hw => ?_))
  obtain ⟨hp4, hp5, hw⟩ := hw
  refine r_new C kJ28 q1136 q1137 q114 df_14 dJ4_listIterator_5 hp4 hp5 hw (fun q6 h7 hw => ?_)
  refine r_dup C rfl dJ4_listIterator_8 (r_aload_n C rfl 0 rfl dJ4_listIterator_9 (r_iload_n C rfl 1 rfl dJ4_listIterator_10 ?_))
  refine r_callI (rest := [.ref q6]) (As := [.ref a0, .int i1]) C sg_J28_init rfl q1138 q1139 q114 q1140 rfl (Nat.le_of_ble_eq_true rfl) dJ4_listIterator_11 rfl hp4 hp5 (c_J28_init G l q6 a0 i1 h7 _ hw) (k_V (fun h9 hw => ?_))
  exact r_areturn (x := some q6) C (by first | exact Or.inl ⟨_, rfl⟩ | exact Or.inr ⟨_, rfl⟩) dJ4_listIterator_14 hp4 hp5 ⟨_, rfl, hw⟩
def w_J1_listIterator (mc ms : Nat) (a0 : Nat) (h : Hp) (Q : Option Nat → Hp → Prop) : Prop :=
  hasC h a0 9 ∧ (∃ k4 k5 : Nat, 0 + k4 ≤ mc ∧ 0 + k5 ≤ ms ∧ (w_J4_listIterator k4 k5 a0 (0 : Int32) h (fun r2 h3 => Q r2 h3)))
theorem sg_J1_listIterator : ySg yJ1_listIterator 0 = true := by decide +kernel
theorem c_J1_listIterator (G : gT) (l : Launch) (mc ms : Nat) (a0 : Nat) (h : Hp) (Q : Option Nat → Hp → Prop) (hw : w_J1_listIterator mc ms a0 h Q) : Ct G l yJ1_listIterator (ws_ yJ1_listIterator cJ1_listIterator 1 (some (.object "java/util/ListIterator"))) 4 78 mc ms [.ref a0] h (pR Q) := by
  refine Ct.of (own := RJ1) false (by decide +kernel) rfl (show (_ : Nat) ≤ _ from Nat.le_of_ble_eq_true rfl) (fun z => by cases z) (fun V C => ?_)
  show V h 0 0 0 [(0, .ref a0)] []
  unfold w_J1_listIterator at hw
  refine r_aload_n C rfl 0 rfl dJ1_listIterator_0 (r_iconst (v := (0 : Int32)) C (by decide) dJ1_listIterator_1 ?_)
  obtain ⟨hq1, hw⟩ := hw
  obtain ⟨k4, k5, hp6, hp7, hw⟩ := hw
  refine r_callU (ci := 9) (owner := "java/util/AbstractList") (rest := []) (As := [.int (0 : Int32)]) C (x := ⟨"java/util/AbstractList", "listIterator", "(I)Ljava/util/ListIterator;"⟩) (show ySg ⟨"java/util/AbstractList", "listIterator", "(I)Ljava/util/ListIterator;"⟩ 1 = true by decide +kernel) rfl q1088 q1090 q1125 q1126 q83 q1127 (by decide +kernel) rfl (Nat.le_of_ble_eq_true rfl) dJ1_listIterator_2 rfl hq1 hp6 hp7 (c_J4_listIterator G l k4 k5 a0 (0 : Int32) h _ hw) (k_R (fun r2 h3 hw => ?_))
  exact r_areturn (x := r2) C (by first | exact Or.inl ⟨_, rfl⟩ | exact Or.inr ⟨_, rfl⟩) dJ1_listIterator_5 hp6 hp7 ⟨_, rfl, hw⟩
def w_J3_init (a0 : Nat) (h : Hp) (Q : Hp → Prop) : Prop :=
  w_J1_initL a0 h (fun h2 => Q h2)
theorem sg_J3_init : ySg yJ3_init 0 = true := by decide +kernel
theorem c_J3_init (G : gT) (l : Launch) (a0 : Nat) (h : Hp) (Q : Hp → Prop) (hw : w_J3_init a0 h Q) : Ct G l yJ3_init (ws_ yJ3_init cJ3_init 1 (none)) 3 52 0 0 [.ref a0] h (pV Q) := by
  refine Ct.of (own := RJ3) true (by decide +kernel) rfl (show (_ : Nat) ≤ _ from Nat.le_of_ble_eq_true rfl) (fun _ => rfl) (fun V C => ?_)
  show V h 0 0 0 [(0, .ref a0)] []
  unfold w_J3_init at hw
  refine r_aload_n C rfl 0 rfl dJ3_init_0 ?_
  refine r_callI (rest := []) (As := []) C sg_J1_init rfl q177 q142 q80 q143 rfl (Nat.le_of_ble_eq_true rfl) dJ3_init_1 rfl (Nat.le_refl _) (Nat.le_refl _) (c_J1_initL G l a0 h _ hw) (k_V (fun h2 hw => ?_))
  exact r_return C dJ3_init_4 (Nat.le_refl _) (Nat.le_refl _) ⟨rfl, hw⟩
def w_J3_iterator (mc ms : Nat) (a0 : Nat) (h : Hp) (Q : Option Nat → Hp → Prop) : Prop :=
  hasC h a0 9 ∧ (∃ k4 k5 : Nat, 0 + k4 ≤ mc ∧ 0 + k5 ≤ ms ∧ (w_J1_listIterator k4 k5 a0 h (fun r2 h3 => Q r2 h3)))
theorem sg_J3_iterator : ySg yJ3_iterator 0 = true := by decide +kernel
theorem c_J3_iterator (G : gT) (l : Launch) (mc ms : Nat) (a0 : Nat) (h : Hp) (Q : Option Nat → Hp → Prop) (hw : w_J3_iterator mc ms a0 h Q) : Ct G l yJ3_iterator (ws_ yJ3_iterator cJ3_iterator 1 (some (.object "java/util/Iterator"))) 5 98 mc ms [.ref a0] h (pR Q) := by
  refine Ct.of (own := RJ3) false (by decide +kernel) rfl (show (_ : Nat) ≤ _ from Nat.le_of_ble_eq_true rfl) (fun z => by cases z) (fun V C => ?_)
  show V h 0 0 0 [(0, .ref a0)] []
  unfold w_J3_iterator at hw
  refine r_aload_n C rfl 0 rfl dJ3_iterator_0 ?_
  obtain ⟨hq1, hw⟩ := hw
  obtain ⟨k4, k5, hp6, hp7, hw⟩ := hw
  refine r_callU (ci := 9) (owner := "java/util/AbstractList") (rest := []) (As := []) C (x := ⟨"java/util/AbstractSequentialList", "listIterator", "()Ljava/util/ListIterator;"⟩) (show ySg ⟨"java/util/AbstractList", "listIterator", "()Ljava/util/ListIterator;"⟩ 0 = true by decide +kernel) rfl q1082 q1083 q1085 q1086 q80 q1087 (by decide +kernel) rfl (Nat.le_of_ble_eq_true rfl) dJ3_iterator_1 rfl hq1 hp6 hp7 (c_J1_listIterator G l k4 k5 a0 h _ hw) (k_R (fun r2 h3 hw => ?_))
  exact r_areturn (x := r2) C (by first | exact Or.inl ⟨_, rfl⟩ | exact Or.inr ⟨_, rfl⟩) dJ3_iterator_4 hp6 hp7 ⟨_, rfl, hw⟩
def w_J9_init (mc ms : Nat) (a0 : Nat) (h : Hp) (Q : Hp → Prop) : Prop :=
  w_J0_init a0 h (fun h2 => 0 + 1 ≤ mc ∧ 0 + 17 ≤ ms ∧ (nwA h2 2 (17, .inr (.inr (.inr (.inr (fun _ => none))))) (fun q5 h6 => pf h6 a0 11 0 (.ref q5) (fun h7 => Q h7))))
theorem sg_J9_init : ySg yJ9_init 0 = true := by decide +kernel
theorem c_J9_init (G : gT) (l : Launch) (mc ms : Nat) (a0 : Nat) (h : Hp) (Q : Hp → Prop) (hw : w_J9_init mc ms a0 h Q) : Ct G l yJ9_init (ws_ yJ9_init cJ9_init 1 (none)) 2 32 mc ms [.ref a0] h (pV Q) := by
  refine Ct.of (own := RJ9) true (by decide +kernel) rfl (show (_ : Nat) ≤ _ from Nat.le_of_ble_eq_true rfl) (fun _ => rfl) (fun V C => ?_)
  show V h 0 0 0 [(0, .ref a0)] []
  unfold w_J9_init at hw
  refine r_aload_n C rfl 0 rfl dJ9_init_0 ?_
  refine r_callI (rest := []) (As := []) C sg_J0_init rfl q331 q145 q79 q146 rfl (Nat.le_of_ble_eq_true rfl) dJ9_init_1 rfl (Nat.zero_le _) (Nat.zero_le _) (c_J0_init G l a0 h _ hw) (k_V (fun h2 hw => ?_))
  refine r_aload_n C rfl 0 rfl dJ9_init_4 (r_bipush (v := (17 : Int32)) C (by decide) dJ9_init_5 ?_)
  obtain ⟨hp3, hp4, hw⟩ := hw
  refine r_newq (N := 17) (t := 2) C q332 (by decide) (by decide) rfl (by decide) (by decide) (by decide) dJ9_init_7 hp3 hp4 hw (fun q5 h6 hw => ?_)
  refine r_pf (k := 0) (v := .ref q5) C kJ9 (by decide) (Or.inl q333) (Or.inl rfl) (Or.inl rfl) rfl rfl dJ9_init_10 hw (fun h7 hw => ?_)
  exact r_return C dJ9_init_13 hp3 hp4 ⟨rfl, hw⟩
def w_J9_inc (i0 : Int32) (i1 : Int32) (h : Hp) (Q : Int32 → Hp → Prop) : Prop :=
  Q (if (i0 + (1 : Int32)) < i1 then i0 + (1 : Int32) else (0 : Int32)) h
theorem sg_J9_inc : ySg yJ9_inc 2 = true := by decide +kernel
theorem c_J9_inc (G : gT) (l : Launch) (i0 : Int32) (i1 : Int32) (h : Hp) (Q : Int32 → Hp → Prop) (hw : w_J9_inc i0 i1 h Q) : Ct G l yJ9_inc (ws_ yJ9_inc cJ9_inc 2 (some .int)) 1 12 0 0 [.int i0, .int i1] h (pI Q) := by
  refine Ct.of (own := RJ9) false (by decide +kernel) rfl (show (_ : Nat) ≤ _ from Nat.le_of_ble_eq_true rfl) (fun z => by cases z) (fun V C => ?_)
  show V h 0 0 0 [(0, .int i0), (1, .int i1)] []
  unfold w_J9_inc at hw
  refine r_iinc (v := i0 + (1 : Int32)) (L' := [(0, .int (i0 + (1 : Int32))), (1, .int i1)]) C (u := 0) rfl (by rfl) (by decide) rfl dJ9_inc_0 (r_iload_n C rfl 0 rfl dJ9_inc_3 (r_iload_n C rfl 1 rfl dJ9_inc_4 ?_))
  have hJ : V h 0 0 10 [(0, .int (if (i0 + (1 : Int32)) < i1 then i0 + (1 : Int32) else (0 : Int32)))] [] := by
    refine r_iload_n C rfl 0 rfl dJ9_inc_10 ?_
    exact r_ireturn C dJ9_inc_11 (Nat.le_refl _) (Nat.le_refl _) ⟨_, rfl, hw⟩
  refine r_icmp_lt (tgt := 10) C (by decide) dJ9_inc_5 (fun hc1 => ?_) (fun hc1 => ?_)
  · have hJ2 := hJ
    try simp only [if_pos hc1] at hJ2
    exact r_sub C [0] rfl hJ2
  · have hJ2 := hJ
    try simp only [if_neg hc1] at hJ2
    refine r_iconst (v := (0 : Int32)) C (by decide) dJ9_inc_8 (r_istore_n (L' := [(0, .int (0 : Int32)), (1, .int i1)]) C rfl (by decide) rfl dJ9_inc_9 ?_)
    exact r_sub C [0] rfl hJ2
def w_J9_addLast (a0 : Nat) (a1 : Nat) (h : Hp) (Q : Hp → Prop) : Prop :=
  gfR h a0 11 0 (fun v1 => gfI h a0 11 2 (fun v2 => nn v1 (fun y4 => wrR 2 h y4 v2 (some a1) (fun h3 => gfI h3 a0 11 1 (fun v5 => gfI h3 a0 11 2 (fun v6 => alen h3 y4 (fun v7 => w_J9_inc v6 v7 h3 (fun r8 h9 => pf h9 a0 11 2 (.int r8) (fun h10 => (¬ v5 = r8 → Q h10) ∧ (v5 = r8 → False))))))))))
theorem sg_J9_addLast : ySg yJ9_addLast 1 = true := by decide +kernel
theorem c_J9_addLast (G : gT) (l : Launch) (a0 : Nat) (a1 : Nat) (h : Hp) (Q : Hp → Prop) (hw : w_J9_addLast a0 a1 h Q) : Ct G l yJ9_addLast (ws_ yJ9_addLast cJ9_addLast 3 (none)) 2 33 0 0 [.ref a0, .ref a1] h (pV Q) := by
  refine Ct.of (own := RJ9) false (by decide +kernel) rfl (show (_ : Nat) ≤ _ from Nat.le_of_ble_eq_true rfl) (fun z => by cases z) (fun V C => ?_)
  show V h 0 0 0 [(0, .ref a0), (1, .ref a1)] []
  unfold w_J9_addLast at hw
  refine r_aload_n C rfl 1 rfl dJ9_addLast_0 ?_
  refine r_ifnonnull (x := some a1) (tgt := 12) C (by decide) dJ9_addLast_1 (fun _ _ => ?_) (fun z => by cases z)
  refine r_aload_n C rfl 0 rfl dJ9_addLast_12 ?_
  refine r_gfR (k := 0) C kJ9 (by decide) (Or.inl q333) (Or.inl rfl) dJ9_addLast_13 hw (fun v1 hw => ?_)
  refine r_astore_nO (x := v1) (L' := [(2, va_rf v1), (0, .ref a0), (1, .ref a1)]) C rfl (by decide) rfl dJ9_addLast_16 (r_aload_nO C rfl 0 rfl dJ9_addLast_17 (r_aload_n C rfl 1 rfl dJ9_addLast_18 ?_))
  refine r_gfI (k := 2) C kJ9 (by decide) (Or.inl q335) (Or.inl rfl) dJ9_addLast_19 hw (fun v2 hw => ?_)
  refine r_aload_n C rfl 2 rfl dJ9_addLast_22 ?_
  obtain ⟨y4, rfl, hw_y4⟩ := hw
  have hw := hw_y4
  refine r_aastore (t := 2) (x := some a1) C (by decide) rfl dJ9_addLast_23 hw (fun h3 hw => ?_)
  refine r_aload_n C rfl 1 rfl dJ9_addLast_24 ?_
  refine r_gfI (k := 1) C kJ9 (by decide) (Or.inl q334) (Or.inl rfl) dJ9_addLast_25 hw (fun v5 hw => ?_)
  refine r_aload_n C rfl 1 rfl dJ9_addLast_28 (r_aload_n C rfl 1 rfl dJ9_addLast_29 ?_)
  refine r_gfI (k := 2) C kJ9 (by decide) (Or.inl q335) (Or.inl rfl) dJ9_addLast_30 hw (fun v6 hw => ?_)
  refine r_aload_n C rfl 0 rfl dJ9_addLast_33 ?_
  refine r_alen C dJ9_addLast_34 hw (fun v7 hw => ?_)
  refine r_callS (rest := [.ref a0, .int v5]) (As := [.int v6, .int v7]) C sg_J9_inc q1736 q1737 q89 q1738 rfl (Nat.le_of_ble_eq_true rfl) dJ9_addLast_35 rfl (Nat.le_refl _) (Nat.le_refl _) (c_J9_inc G l v6 v7 h3 _ hw) (k_I (fun r8 h9 hw => ?_))
  refine r_dup_x1 C rfl rfl dJ9_addLast_38 ?_
  refine r_pf (k := 2) (v := .int r8) C kJ9 (by decide) (Or.inl q335) (Or.inl rfl) (Or.inl rfl) rfl rfl dJ9_addLast_39 hw (fun h10 hw => ?_)
  refine r_icmp_ne (tgt := 50) C (by decide) dJ9_addLast_42 (fun hc11 => ?_) (fun hc11 => ?_)
  · have hw := hw.1 hc11
    exact r_return C dJ9_addLast_50 (Nat.le_refl _) (Nat.le_refl _) ⟨rfl, hw⟩
  · have hw := hw.2 hc11
    refine r_aload_n C rfl 1 rfl dJ9_addLast_45 (r_iconst (v := (1 : Int32)) C (by decide) dJ9_addLast_46 ?_)
    exact hw.elim
def S_J9_circularClear_12 (Q : Hp → Prop) (LA12 : Hp → Nat → Int32 → Int32 → Int32 → Prop) (h : Hp) (x0 : Nat) (x1 : Int32) (x2 : Int32) (x3 : Int32) : Prop :=
  (x3 ≤ x1 → (¬ x3 = x2 → LA12 h x0 (0 : Int32) x2 x2) ∧ (x3 = x2 → Q h)) ∧ (¬ x3 ≤ x1 → wrR 2 h x0 x1 none (fun h3 => LA12 h3 x0 (x1 + (1 : Int32)) x2 x3))
def B_J9_circularClear_12 (Q : Hp → Prop) : Nat → Hp → Nat → Int32 → Int32 → Int32 → Prop
  | 0, _, _, _, _, _ => False
  | k + 1, h, x0, x1, x2, x3 => S_J9_circularClear_12 Q (B_J9_circularClear_12 Q k) h x0 x1 x2 x3
def B_J9_circularClear_11 (Q : Hp → Prop) (h : Hp) (x0 : Nat) (x1 : Int32) (x2 : Int32) (s0 : Int32) : Prop :=
  ∃ k9 : Nat, B_J9_circularClear_12 Q k9 h x0 x1 x2 s0
def w_J9_circularClear (a0 : Nat) (i1 : Int32) (i2 : Int32) (h : Hp) (Q : Hp → Prop) : Prop :=
  (i2 < i1 → alen h a0 (fun v5 => B_J9_circularClear_11 Q h a0 i1 i2 v5)) ∧ (¬ i2 < i1 → B_J9_circularClear_11 Q h a0 i1 i2 i2)
theorem s_J9_circularClear_12 {G : gT} {l : Launch} {V : Hp → Nat → Nat → Nat → List (Nat × Value) → List Value → Prop} {Q : Hp → Prop} (C : Cx G l V cJ9_circularClear 4 RJ9 1 12 0 0 (pV Q) none (none) [] false) (LA12 : Hp → Nat → Int32 → Int32 → Int32 → Prop) (hLA12 : ∀ (h : Hp) (x0 : Nat) (x1 : Int32) (x2 : Int32) (x3 : Int32), LA12 h x0 x1 x2 x3 → V h 0 0 12 [(0, .ref x0), (1, .int x1), (2, .int x2), (3, .int x3)] []) (h : Hp) (x0 : Nat) (x1 : Int32) (x2 : Int32) (x3 : Int32) (hw : S_J9_circularClear_12 Q LA12 h x0 x1 x2 x3) : V h 0 0 12 [(0, .ref x0), (1, .int x1), (2, .int x2), (3, .int x3)] [] := by
  unfold S_J9_circularClear_12 at hw
  refine r_iload_n C rfl 1 rfl dJ9_circularClear_12 (r_iload_n C rfl 3 rfl dJ9_circularClear_13 ?_)
  refine r_icmp_ge (tgt := 27) C (by decide) dJ9_circularClear_14 (fun hc1 => ?_) (fun hc1 => ?_)
  · have hw := hw.1 hc1
    refine r_iload_n C rfl 3 rfl dJ9_circularClear_27 (r_iload_n C rfl 2 rfl dJ9_circularClear_28 ?_)
    refine r_icmp_ne (tgt := 35) C (by decide) dJ9_circularClear_29 (fun hc2 => ?_) (fun hc2 => ?_)
    · have hw := hw.1 hc2
      refine r_iconst (v := (0 : Int32)) C (by decide) dJ9_circularClear_35 (r_istore_n (L' := [(1, .int (0 : Int32)), (0, .ref x0), (2, .int x2), (3, .int x3)]) C rfl (by decide) rfl dJ9_circularClear_36 (r_iload_n C rfl 2 rfl dJ9_circularClear_37 (r_istore_n (L' := [(3, .int x2), (1, .int (0 : Int32)), (0, .ref x0), (2, .int x2)]) C rfl (by decide) rfl dJ9_circularClear_38 (r_goto (tgt := 12) C (by decide) dJ9_circularClear_39 ?_))))
      exact r_sub C [2, 1, 3, 0] rfl (hLA12 _ _ _ _ _ hw)
    · have hw := hw.2 hc2
      refine r_goto (tgt := 42) C (by decide) dJ9_circularClear_32 ?_
      exact r_return C dJ9_circularClear_42 (Nat.le_refl _) (Nat.le_refl _) ⟨rfl, hw⟩
  · have hw := hw.2 hc1
    refine r_aload_n C rfl 0 rfl dJ9_circularClear_17 (r_iload_n C rfl 1 rfl dJ9_circularClear_18 (r_null C dJ9_circularClear_19 ?_))
    refine r_aastore (t := 2) (x := none) C (by decide) rfl dJ9_circularClear_20 hw (fun h3 hw => ?_)
    refine r_iinc (v := x1 + (1 : Int32)) (L' := [(1, .int (x1 + (1 : Int32))), (0, .ref x0), (2, .int x2), (3, .int x3)]) C (u := 1) rfl (by rfl) (by decide) rfl dJ9_circularClear_21 (r_goto (tgt := 12) C (by decide) dJ9_circularClear_24 ?_)
    exact r_sub C [1, 0, 2, 3] rfl (hLA12 _ _ _ _ _ hw)
theorem b_J9_circularClear_12 {G : gT} {l : Launch} {V : Hp → Nat → Nat → Nat → List (Nat × Value) → List Value → Prop} {Q : Hp → Prop} (C : Cx G l V cJ9_circularClear 4 RJ9 1 12 0 0 (pV Q) none (none) [] false) : ∀ (k : Nat) (h : Hp) (x0 : Nat) (x1 : Int32) (x2 : Int32) (x3 : Int32), B_J9_circularClear_12 Q k h x0 x1 x2 x3 → V h 0 0 12 [(0, .ref x0), (1, .int x1), (2, .int x2), (3, .int x3)] [] := by
  intro k
  induction k with
  | zero =>
    intro h x0 x1 x2 x3 hw
    exact hw.elim
  | succ k ih =>
    intro h x0 x1 x2 x3 hw
    exact s_J9_circularClear_12 C _ (fun h x0 x1 x2 x3 hw => ih h x0 x1 x2 x3 hw) h x0 x1 x2 x3 hw
theorem b_J9_circularClear_11 {G : gT} {l : Launch} {V : Hp → Nat → Nat → Nat → List (Nat × Value) → List Value → Prop} {Q : Hp → Prop} (C : Cx G l V cJ9_circularClear 4 RJ9 1 12 0 0 (pV Q) none (none) [] false) (h : Hp) (x0 : Nat) (x1 : Int32) (x2 : Int32) (s0 : Int32) (hw : B_J9_circularClear_11 Q h x0 x1 x2 s0) : V h 0 0 11 [(0, .ref x0), (1, .int x1), (2, .int x2)] [.int s0] := by
  unfold B_J9_circularClear_11 at hw
  refine r_istore_n (L' := [(3, .int s0), (0, .ref x0), (1, .int x1), (2, .int x2)]) C rfl (by decide) rfl dJ9_circularClear_11 ?_
  obtain ⟨k9, hw⟩ := hw
  exact r_sub C [1, 2, 3, 0] rfl (b_J9_circularClear_12 C _ _ _ _ _ _ hw)
theorem sg_J9_circularClear : ySg yJ9_circularClear 3 = true := by decide +kernel
theorem c_J9_circularClear (G : gT) (l : Launch) (a0 : Nat) (i1 : Int32) (i2 : Int32) (h : Hp) (Q : Hp → Prop) (hw : w_J9_circularClear a0 i1 i2 h Q) : Ct G l yJ9_circularClear (ws_ yJ9_circularClear cJ9_circularClear 4 (none)) 1 12 0 0 [.ref a0, .int i1, .int i2] h (pV Q) := by
  refine Ct.of (own := RJ9) false (by decide +kernel) rfl (show (_ : Nat) ≤ _ from Nat.le_of_ble_eq_true rfl) (fun z => by cases z) (fun V C => ?_)
  show V h 0 0 0 [(0, .ref a0), (1, .int i1), (2, .int i2)] []
  unfold w_J9_circularClear at hw
  refine r_iload_n C rfl 1 rfl dJ9_circularClear_0 (r_iload_n C rfl 2 rfl dJ9_circularClear_1 ?_)
  refine r_icmp_gt (tgt := 9) C (by decide) dJ9_circularClear_2 (fun hc4 => ?_) (fun hc4 => ?_)
  · have hw := hw.1 hc4
    refine r_aload_n C rfl 0 rfl dJ9_circularClear_9 ?_
    refine r_alen C dJ9_circularClear_10 hw (fun v5 hw => ?_)
    exact r_sub C [0, 1, 2] rfl (b_J9_circularClear_11 C _ _ _ _ _ hw)
  · have hw := hw.2 hc4
    refine r_iload_n C rfl 2 rfl dJ9_circularClear_5 (r_goto (tgt := 11) C (by decide) dJ9_circularClear_6 ?_)
    exact r_sub C [0, 1, 2] rfl (b_J9_circularClear_11 C _ _ _ _ _ hw)
def w_J9_clear (a0 : Nat) (h : Hp) (Q : Hp → Prop) : Prop :=
  gfR h a0 11 0 (fun v1 => gfI h a0 11 1 (fun v2 => gfI h a0 11 2 (fun v3 => nn v1 (fun y4 => w_J9_circularClear y4 v2 v3 h (fun h6 => pf h6 a0 11 2 (.int (0 : Int32)) (fun h7 => pf h7 a0 11 1 (.int (0 : Int32)) (fun h8 => Q h8)))))))
theorem sg_J9_clear : ySg yJ9_clear 0 = true := by decide +kernel
theorem c_J9_clear (G : gT) (l : Launch) (a0 : Nat) (h : Hp) (Q : Hp → Prop) (hw : w_J9_clear a0 h Q) : Ct G l yJ9_clear (ws_ yJ9_clear cJ9_clear 1 (none)) 2 35 0 0 [.ref a0] h (pV Q) := by
  refine Ct.of (own := RJ9) false (by decide +kernel) rfl (show (_ : Nat) ≤ _ from Nat.le_of_ble_eq_true rfl) (fun z => by cases z) (fun V C => ?_)
  show V h 0 0 0 [(0, .ref a0)] []
  unfold w_J9_clear at hw
  refine r_aload_n C rfl 0 rfl dJ9_clear_0 ?_
  refine r_gfR (k := 0) C kJ9 (by decide) (Or.inl q333) (Or.inl rfl) dJ9_clear_1 hw (fun v1 hw => ?_)
  refine r_aload_n C rfl 0 rfl dJ9_clear_4 ?_
  refine r_gfI (k := 1) C kJ9 (by decide) (Or.inl q334) (Or.inl rfl) dJ9_clear_5 hw (fun v2 hw => ?_)
  refine r_aload_n C rfl 0 rfl dJ9_clear_8 ?_
  refine r_gfI (k := 2) C kJ9 (by decide) (Or.inl q335) (Or.inl rfl) dJ9_clear_9 hw (fun v3 hw => ?_)
  obtain ⟨y4, rfl, hw_y4⟩ := hw
  have hw := hw_y4
  refine r_callS (rest := []) (As := [.ref y4, .int v2, .int v3]) C sg_J9_circularClear q1369 q1370 q89 q1371 rfl (Nat.le_of_ble_eq_true rfl) dJ9_clear_12 rfl (Nat.le_refl _) (Nat.le_refl _) (c_J9_circularClear G l y4 v2 v3 h _ hw) (k_V (fun h6 hw => ?_))
  refine r_aload_n C rfl 0 rfl dJ9_clear_15 (r_aload_n C rfl 0 rfl dJ9_clear_16 (r_iconst (v := (0 : Int32)) C (by decide) dJ9_clear_17 (r_dup_x1 C rfl rfl dJ9_clear_18 ?_)))
  refine r_pf (k := 2) (v := .int (0 : Int32)) C kJ9 (by decide) (Or.inl q335) (Or.inl rfl) (Or.inl rfl) rfl rfl dJ9_clear_19 hw (fun h7 hw => ?_)
  refine r_pf (k := 1) (v := .int (0 : Int32)) C kJ9 (by decide) (Or.inl q334) (Or.inl rfl) (Or.inl rfl) rfl rfl dJ9_clear_22 hw (fun h8 hw => ?_)
  exact r_return C dJ9_clear_25 (Nat.le_refl _) (Nat.le_refl _) ⟨rfl, hw⟩
def w_J9_dec (i0 : Int32) (i1 : Int32) (h : Hp) (Q : Int32 → Hp → Prop) : Prop :=
  Q (if 0 ≤ (i0 + (-1 : Int32)) then i0 + (-1 : Int32) else i1 - (1 : Int32)) h
theorem sg_J9_dec : ySg yJ9_dec 2 = true := by decide +kernel
theorem c_J9_dec (G : gT) (l : Launch) (i0 : Int32) (i1 : Int32) (h : Hp) (Q : Int32 → Hp → Prop) (hw : w_J9_dec i0 i1 h Q) : Ct G l yJ9_dec (ws_ yJ9_dec cJ9_dec 2 (some .int)) 1 12 0 0 [.int i0, .int i1] h (pI Q) := by
  refine Ct.of (own := RJ9) false (by decide +kernel) rfl (show (_ : Nat) ≤ _ from Nat.le_of_ble_eq_true rfl) (fun z => by cases z) (fun V C => ?_)
  show V h 0 0 0 [(0, .int i0), (1, .int i1)] []
  unfold w_J9_dec at hw
  refine r_iinc (v := i0 + (-1 : Int32)) (L' := [(0, .int (i0 + (-1 : Int32))), (1, .int i1)]) C (u := 0) rfl (by rfl) (by decide) rfl dJ9_dec_0 (r_iload_n C rfl 0 rfl dJ9_dec_3 ?_)
  have hJ : V h 0 0 11 [(0, .int (if 0 ≤ (i0 + (-1 : Int32)) then i0 + (-1 : Int32) else i1 - (1 : Int32)))] [] := by
    refine r_iload_n C rfl 0 rfl dJ9_dec_11 ?_
    exact r_ireturn C dJ9_dec_12 (Nat.le_refl _) (Nat.le_refl _) ⟨_, rfl, hw⟩
  refine r_if_ge (tgt := 11) C (by decide) dJ9_dec_4 (fun hc1 => ?_) (fun hc1 => ?_)
  · have hJ2 := hJ
    try simp only [if_pos hc1] at hJ2
    exact r_sub C [0] rfl hJ2
  · have hJ2 := hJ
    try simp only [if_neg hc1] at hJ2
    refine r_iload_n C rfl 1 rfl dJ9_dec_7 (r_iconst (v := (1 : Int32)) C (by decide) dJ9_dec_8 (r_isub C dJ9_dec_9 (r_istore_n (L' := [(0, .int (i1 - (1 : Int32))), (1, .int i1)]) C rfl (by decide) rfl dJ9_dec_10 ?_)))
    exact r_sub C [0] rfl hJ2
def w_J9_elementAt (a0 : Nat) (i1 : Int32) (h : Hp) (Q : Option Nat → Hp → Prop) : Prop :=
  rdR 2 h a0 i1 (fun v1 => Q v1 h)
theorem sg_J9_elementAt : ySg yJ9_elementAt 2 = true := by decide +kernel
theorem c_J9_elementAt (G : gT) (l : Launch) (a0 : Nat) (i1 : Int32) (h : Hp) (Q : Option Nat → Hp → Prop) (hw : w_J9_elementAt a0 i1 h Q) : Ct G l yJ9_elementAt (ws_ yJ9_elementAt cJ9_elementAt 2 (some (.object "java/lang/Object"))) 1 12 0 0 [.ref a0, .int i1] h (pR Q) := by
  refine Ct.of (own := RJ9) false (by decide +kernel) rfl (show (_ : Nat) ≤ _ from Nat.le_of_ble_eq_true rfl) (fun z => by cases z) (fun V C => ?_)
  show V h 0 0 0 [(0, .ref a0), (1, .int i1)] []
  unfold w_J9_elementAt at hw
  refine r_aload_n C rfl 0 rfl dJ9_elementAt_0 (r_iload_n C rfl 1 rfl dJ9_elementAt_1 ?_)
  refine r_aaload (t := 2) C rfl dJ9_elementAt_2 hw (fun v1 hw => ?_)
  exact r_areturn (x := v1) C (by first | exact Or.inl ⟨_, rfl⟩ | exact Or.inr ⟨_, rfl⟩) dJ9_elementAt_3 (Nat.le_refl _) (Nat.le_refl _) ⟨_, rfl, hw⟩
def w_J9_isEmpty (a0 : Nat) (h : Hp) (Q : Bool → Hp → Prop) : Prop :=
  gfI h a0 11 1 (fun v1 => gfI h a0 11 2 (fun v2 => Q (if ¬ v1 = v2 then false else true) h))
theorem sg_J9_isEmpty : ySg yJ9_isEmpty 0 = true := by decide +kernel
theorem c_J9_isEmpty (G : gT) (l : Launch) (a0 : Nat) (h : Hp) (Q : Bool → Hp → Prop) (hw : w_J9_isEmpty a0 h Q) : Ct G l yJ9_isEmpty (ws_ yJ9_isEmpty cJ9_isEmpty 1 (some .boolean)) 1 12 0 0 [.ref a0] h (pZ Q) := by
  refine Ct.of (own := RJ9) false (by decide +kernel) rfl (show (_ : Nat) ≤ _ from Nat.le_of_ble_eq_true rfl) (fun z => by cases z) (fun V C => ?_)
  show V h 0 0 0 [(0, .ref a0)] []
  unfold w_J9_isEmpty at hw
  refine r_aload_n C rfl 0 rfl dJ9_isEmpty_0 ?_
  refine r_gfI (k := 1) C kJ9 (by decide) (Or.inl q334) (Or.inl rfl) dJ9_isEmpty_1 hw (fun v1 hw => ?_)
  refine r_aload_n C rfl 0 rfl dJ9_isEmpty_4 ?_
  refine r_gfI (k := 2) C kJ9 (by decide) (Or.inl q335) (Or.inl rfl) dJ9_isEmpty_5 hw (fun v2 hw => ?_)
  have hJ : V h 0 0 16 [] [.int (bI (if ¬ v1 = v2 then false else true))] := by
    exact r_zreturn (x := (if ¬ v1 = v2 then false else true)) C dJ9_isEmpty_16 (Nat.le_refl _) (Nat.le_refl _) ⟨_, rfl, hw⟩
  refine r_icmp_ne (tgt := 15) C (by decide) dJ9_isEmpty_8 (fun hc3 => ?_) (fun hc3 => ?_)
  · have hJ4 := hJ
    try simp only [if_pos hc3] at hJ4
    refine r_iconst (v := (0 : Int32)) C (by decide) dJ9_isEmpty_15 ?_
    exact r_sub C [] rfl hJ4
  · have hJ4 := hJ
    try simp only [if_neg (show ¬ ¬ v1 = v2 from fun z => z hc3)] at hJ4
    refine r_iconst (v := (1 : Int32)) C (by decide) dJ9_isEmpty_11 (r_goto (tgt := 16) C (by decide) dJ9_isEmpty_12 ?_)
    exact r_sub C [] rfl hJ4
def B_J9_pollFirst_34 (Q : Option Nat → Hp → Prop) (h : Hp) (x3 : Option Nat) : Prop :=
  Q x3 h
def w_J9_pollFirst (a0 : Nat) (h : Hp) (Q : Option Nat → Hp → Prop) : Prop :=
  gfR h a0 11 0 (fun v1 => gfI h a0 11 1 (fun v2 => nn v1 (fun y3 => w_J9_elementAt y3 v2 h (fun r4 h5 => (r4 = none → B_J9_pollFirst_34 Q h5 none) ∧ (∀ y6 : Nat, r4 = some y6 → wrR 2 h5 y3 v2 none (fun h7 => alen h7 y3 (fun v8 => w_J9_inc v2 v8 h7 (fun r9 h10 => pf h10 a0 11 1 (.int r9) (fun h11 => B_J9_pollFirst_34 Q h11 (some y6))))))))))
theorem b_J9_pollFirst_34 {G : gT} {l : Launch} {V : Hp → Nat → Nat → Nat → List (Nat × Value) → List Value → Prop} {Q : Option Nat → Hp → Prop} (C : Cx G l V cJ9_pollFirst 4 RJ9 2 33 0 0 (pR Q) none (some (.object "java/lang/Object")) [] false) (h : Hp) (x3 : Option Nat) (hw : B_J9_pollFirst_34 Q h x3) : V h 0 0 34 [(3, va_rf x3)] [] := by
  unfold B_J9_pollFirst_34 at hw
  refine r_aload_nO C rfl 0 rfl dJ9_pollFirst_34 ?_
  exact r_areturn (x := x3) C (by first | exact Or.inl ⟨_, rfl⟩ | exact Or.inr ⟨_, rfl⟩) dJ9_pollFirst_35 (Nat.le_refl _) (Nat.le_refl _) ⟨_, rfl, hw⟩
theorem sg_J9_pollFirst : ySg yJ9_pollFirst 0 = true := by decide +kernel
theorem c_J9_pollFirst (G : gT) (l : Launch) (a0 : Nat) (h : Hp) (Q : Option Nat → Hp → Prop) (hw : w_J9_pollFirst a0 h Q) : Ct G l yJ9_pollFirst (ws_ yJ9_pollFirst cJ9_pollFirst 4 (some (.object "java/lang/Object"))) 2 33 0 0 [.ref a0] h (pR Q) := by
  refine Ct.of (own := RJ9) false (by decide +kernel) rfl (show (_ : Nat) ≤ _ from Nat.le_of_ble_eq_true rfl) (fun z => by cases z) (fun V C => ?_)
  show V h 0 0 0 [(0, .ref a0)] []
  unfold w_J9_pollFirst at hw
  refine r_aload_n C rfl 0 rfl dJ9_pollFirst_0 ?_
  refine r_gfR (k := 0) C kJ9 (by decide) (Or.inl q333) (Or.inl rfl) dJ9_pollFirst_1 hw (fun v1 hw => ?_)
  refine r_dup C (va_rf_cat _) dJ9_pollFirst_4 (r_astore_nO (x := v1) (L' := [(1, va_rf v1), (0, .ref a0)]) C rfl (by decide) rfl dJ9_pollFirst_5 (r_aload_n C rfl 1 rfl dJ9_pollFirst_6 ?_))
  refine r_gfI (k := 1) C kJ9 (by decide) (Or.inl q334) (Or.inl rfl) dJ9_pollFirst_7 hw (fun v2 hw => ?_)
  refine r_dup C rfl dJ9_pollFirst_10 (r_istore_n (L' := [(2, .int v2), (1, va_rf v1), (0, .ref a0)]) C rfl (by decide) (by rcases v1 with _ | _ <;> rfl) dJ9_pollFirst_11 ?_)
  obtain ⟨y3, rfl, hw_y3⟩ := hw
  have hw := hw_y3
  refine r_callS (rest := []) (As := [.ref y3, .int v2]) C sg_J9_elementAt q1733 q1734 q89 q1735 rfl (Nat.le_of_ble_eq_true rfl) dJ9_pollFirst_12 rfl (Nat.le_refl _) (Nat.le_refl _) (c_J9_elementAt G l y3 v2 h _ hw) (k_R (fun r4 h5 hw => ?_))
  refine r_astore_nO (x := r4) (L' := [(3, va_rf r4), (2, .int v2), (1, .ref y3), (0, .ref a0)]) C rfl (by decide) rfl dJ9_pollFirst_15 (r_aload_nO C rfl 0 rfl dJ9_pollFirst_16 ?_)
  refine r_ifnull (x := r4) (tgt := 34) C (by decide) dJ9_pollFirst_17 (fun hc12 => ?_) (fun y6 hc12 => ?_)
  · have hw_y6 := hw.1 hc12
    subst hc12
    have hw := hw_y6
    exact r_sub C [0] rfl (b_J9_pollFirst_34 C _ _ hw)
  · have hw_y6 := hw.2 y6 hc12
    subst hc12
    have hw := hw_y6
    refine r_aload_n C rfl 2 rfl dJ9_pollFirst_20 (r_iload_n C rfl 1 rfl dJ9_pollFirst_21 (r_null C dJ9_pollFirst_22 ?_))
    refine r_aastore (t := 2) (x := none) C (by decide) rfl dJ9_pollFirst_23 hw (fun h7 hw => ?_)
    refine r_aload_n C rfl 3 rfl dJ9_pollFirst_24 (r_iload_n C rfl 1 rfl dJ9_pollFirst_25 (r_aload_n C rfl 2 rfl dJ9_pollFirst_26 ?_))
    refine r_alen C dJ9_pollFirst_27 hw (fun v8 hw => ?_)
    refine r_callS (rest := [.ref a0]) (As := [.int v2, .int v8]) C sg_J9_inc q1736 q1737 q89 q1738 rfl (Nat.le_of_ble_eq_true rfl) dJ9_pollFirst_28 rfl (Nat.le_refl _) (Nat.le_refl _) (c_J9_inc G l v2 v8 h7 _ hw) (k_I (fun r9 h10 hw => ?_))
    refine r_pf (k := 1) (v := .int r9) C kJ9 (by decide) (Or.inl q334) (Or.inl rfl) (Or.inl rfl) rfl rfl dJ9_pollFirst_31 hw (fun h11 hw => ?_)
    exact r_sub C [0] rfl (b_J9_pollFirst_34 C _ _ hw)
def B_J9_pollLast_34 (Q : Option Nat → Hp → Prop) (h : Hp) (x3 : Option Nat) : Prop :=
  Q x3 h
def w_J9_pollLast (a0 : Nat) (h : Hp) (Q : Option Nat → Hp → Prop) : Prop :=
  gfR h a0 11 0 (fun v1 => gfI h a0 11 2 (fun v2 => nn v1 (fun y3 => alen h y3 (fun v4 => w_J9_dec v2 v4 h (fun r5 h6 => w_J9_elementAt y3 r5 h6 (fun r7 h8 => (r7 = none → B_J9_pollLast_34 Q h8 none) ∧ (∀ y9 : Nat, r7 = some y9 → pf h8 a0 11 2 (.int r5) (fun h10 => wrR 2 h10 y3 r5 none (fun h11 => B_J9_pollLast_34 Q h11 (some y9))))))))))
theorem b_J9_pollLast_34 {G : gT} {l : Launch} {V : Hp → Nat → Nat → Nat → List (Nat × Value) → List Value → Prop} {Q : Option Nat → Hp → Prop} (C : Cx G l V cJ9_pollLast 4 RJ9 2 33 0 0 (pR Q) none (some (.object "java/lang/Object")) [] false) (h : Hp) (x3 : Option Nat) (hw : B_J9_pollLast_34 Q h x3) : V h 0 0 34 [(3, va_rf x3)] [] := by
  unfold B_J9_pollLast_34 at hw
  refine r_aload_nO C rfl 0 rfl dJ9_pollLast_34 ?_
  exact r_areturn (x := x3) C (by first | exact Or.inl ⟨_, rfl⟩ | exact Or.inr ⟨_, rfl⟩) dJ9_pollLast_35 (Nat.le_refl _) (Nat.le_refl _) ⟨_, rfl, hw⟩
theorem sg_J9_pollLast : ySg yJ9_pollLast 0 = true := by decide +kernel
theorem c_J9_pollLast (G : gT) (l : Launch) (a0 : Nat) (h : Hp) (Q : Option Nat → Hp → Prop) (hw : w_J9_pollLast a0 h Q) : Ct G l yJ9_pollLast (ws_ yJ9_pollLast cJ9_pollLast 4 (some (.object "java/lang/Object"))) 2 33 0 0 [.ref a0] h (pR Q) := by
  refine Ct.of (own := RJ9) false (by decide +kernel) rfl (show (_ : Nat) ≤ _ from Nat.le_of_ble_eq_true rfl) (fun z => by cases z) (fun V C => ?_)
  show V h 0 0 0 [(0, .ref a0)] []
  unfold w_J9_pollLast at hw
  refine r_aload_n C rfl 0 rfl dJ9_pollLast_0 ?_
  refine r_gfR (k := 0) C kJ9 (by decide) (Or.inl q333) (Or.inl rfl) dJ9_pollLast_1 hw (fun v1 hw => ?_)
  refine r_dup C (va_rf_cat _) dJ9_pollLast_4 (r_astore_nO (x := v1) (L' := [(1, va_rf v1), (0, .ref a0)]) C rfl (by decide) rfl dJ9_pollLast_5 (r_aload_n C rfl 1 rfl dJ9_pollLast_6 ?_))
  refine r_gfI (k := 2) C kJ9 (by decide) (Or.inl q335) (Or.inl rfl) dJ9_pollLast_7 hw (fun v2 hw => ?_)
  refine r_aload_nO C rfl 0 rfl dJ9_pollLast_10 ?_
  obtain ⟨y3, rfl, hw_y3⟩ := hw
  have hw := hw_y3
  refine r_alen C dJ9_pollLast_11 hw (fun v4 hw => ?_)
  refine r_callS (rest := [.ref y3]) (As := [.int v2, .int v4]) C sg_J9_dec q2054 q2055 q89 q2056 rfl (Nat.le_of_ble_eq_true rfl) dJ9_pollLast_12 rfl (Nat.le_refl _) (Nat.le_refl _) (c_J9_dec G l v2 v4 h _ hw) (k_I (fun r5 h6 hw => ?_))
  refine r_dup C rfl dJ9_pollLast_15 (r_istore_n (L' := [(2, .int r5), (1, .ref y3), (0, .ref a0)]) C rfl (by decide) rfl dJ9_pollLast_16 ?_)
  refine r_callS (rest := []) (As := [.ref y3, .int r5]) C sg_J9_elementAt q1733 q1734 q89 q1735 rfl (Nat.le_of_ble_eq_true rfl) dJ9_pollLast_17 rfl (Nat.le_refl _) (Nat.le_refl _) (c_J9_elementAt G l y3 r5 h6 _ hw) (k_R (fun r7 h8 hw => ?_))
  refine r_astore_nO (x := r7) (L' := [(3, va_rf r7), (2, .int r5), (1, .ref y3), (0, .ref a0)]) C rfl (by decide) rfl dJ9_pollLast_20 (r_aload_nO C rfl 0 rfl dJ9_pollLast_21 ?_)
  refine r_ifnull (x := r7) (tgt := 34) C (by decide) dJ9_pollLast_22 (fun hc12 => ?_) (fun y9 hc12 => ?_)
  · have hw_y9 := hw.1 hc12
    subst hc12
    have hw := hw_y9
    exact r_sub C [0] rfl (b_J9_pollLast_34 C _ _ hw)
  · have hw_y9 := hw.2 y9 hc12
    subst hc12
    have hw := hw_y9
    refine r_aload_n C rfl 2 rfl dJ9_pollLast_25 (r_aload_n C rfl 3 rfl dJ9_pollLast_26 (r_iload_n C rfl 1 rfl dJ9_pollLast_27 (r_dup_x1 C rfl rfl dJ9_pollLast_28 ?_)))
    refine r_pf (k := 2) (v := .int r5) C kJ9 (by decide) (Or.inl q335) (Or.inl rfl) (Or.inl rfl) rfl rfl dJ9_pollLast_29 hw (fun h10 hw => ?_)
    refine r_null C dJ9_pollLast_32 ?_
    refine r_aastore (t := 2) (x := none) C (by decide) rfl dJ9_pollLast_33 hw (fun h11 hw => ?_)
    exact r_sub C [0] rfl (b_J9_pollLast_34 C _ _ hw)
def w_J9_sub (i0 : Int32) (i1 : Int32) (i2 : Int32) (h : Hp) (Q : Int32 → Hp → Prop) : Prop :=
  Q (if 0 ≤ (i0 - i1) then i0 - i1 else (i0 - i1) + i2) h
theorem sg_J9_sub : ySg yJ9_sub 3 = true := by decide +kernel
theorem c_J9_sub (G : gT) (l : Launch) (i0 : Int32) (i1 : Int32) (i2 : Int32) (h : Hp) (Q : Int32 → Hp → Prop) (hw : w_J9_sub i0 i1 i2 h Q) : Ct G l yJ9_sub (ws_ yJ9_sub cJ9_sub 3 (some .int)) 1 12 0 0 [.int i0, .int i1, .int i2] h (pI Q) := by
  refine Ct.of (own := RJ9) false (by decide +kernel) rfl (show (_ : Nat) ≤ _ from Nat.le_of_ble_eq_true rfl) (fun z => by cases z) (fun V C => ?_)
  show V h 0 0 0 [(0, .int i0), (1, .int i1), (2, .int i2)] []
  unfold w_J9_sub at hw
  refine r_iload_n C rfl 0 rfl dJ9_sub_0 (r_iload_n C rfl 1 rfl dJ9_sub_1 (r_isub C dJ9_sub_2 (r_dup C rfl dJ9_sub_3 (r_istore_n (L' := [(0, .int (i0 - i1)), (1, .int i1), (2, .int i2)]) C rfl (by decide) rfl dJ9_sub_4 ?_))))
  have hJ : V h 0 0 12 [(0, .int (if 0 ≤ (i0 - i1) then i0 - i1 else (i0 - i1) + i2))] [] := by
    refine r_iload_n C rfl 0 rfl dJ9_sub_12 ?_
    exact r_ireturn C dJ9_sub_13 (Nat.le_refl _) (Nat.le_refl _) ⟨_, rfl, hw⟩
  refine r_if_ge (tgt := 12) C (by decide) dJ9_sub_5 (fun hc1 => ?_) (fun hc1 => ?_)
  · have hJ2 := hJ
    try simp only [if_pos hc1] at hJ2
    exact r_sub C [0] rfl hJ2
  · have hJ2 := hJ
    try simp only [if_neg hc1] at hJ2
    refine r_iload_n C rfl 0 rfl dJ9_sub_8 (r_iload_n C rfl 2 rfl dJ9_sub_9 (r_iadd C dJ9_sub_10 (r_istore_n (L' := [(0, .int ((i0 - i1) + i2)), (1, .int i1), (2, .int i2)]) C rfl (by decide) rfl dJ9_sub_11 ?_)))
    exact r_sub C [0] rfl hJ2
def w_J9_size (a0 : Nat) (h : Hp) (Q : Int32 → Hp → Prop) : Prop :=
  gfI h a0 11 2 (fun v1 => gfI h a0 11 1 (fun v2 => gfR h a0 11 0 (fun v3 => nn v3 (fun y4 => alen h y4 (fun v5 => w_J9_sub v1 v2 v5 h (fun r6 h7 => Q r6 h7))))))
theorem sg_J9_size : ySg yJ9_size 0 = true := by decide +kernel
theorem c_J9_size (G : gT) (l : Launch) (a0 : Nat) (h : Hp) (Q : Int32 → Hp → Prop) (hw : w_J9_size a0 h Q) : Ct G l yJ9_size (ws_ yJ9_size cJ9_size 1 (some .int)) 2 34 0 0 [.ref a0] h (pI Q) := by
  refine Ct.of (own := RJ9) false (by decide +kernel) rfl (show (_ : Nat) ≤ _ from Nat.le_of_ble_eq_true rfl) (fun z => by cases z) (fun V C => ?_)
  show V h 0 0 0 [(0, .ref a0)] []
  unfold w_J9_size at hw
  refine r_aload_n C rfl 0 rfl dJ9_size_0 ?_
  refine r_gfI (k := 2) C kJ9 (by decide) (Or.inl q335) (Or.inl rfl) dJ9_size_1 hw (fun v1 hw => ?_)
  refine r_aload_n C rfl 0 rfl dJ9_size_4 ?_
  refine r_gfI (k := 1) C kJ9 (by decide) (Or.inl q334) (Or.inl rfl) dJ9_size_5 hw (fun v2 hw => ?_)
  refine r_aload_n C rfl 0 rfl dJ9_size_8 ?_
  refine r_gfR (k := 0) C kJ9 (by decide) (Or.inl q333) (Or.inl rfl) dJ9_size_9 hw (fun v3 hw => ?_)
  obtain ⟨y4, rfl, hw_y4⟩ := hw
  have hw := hw_y4
  refine r_alen C dJ9_size_12 hw (fun v5 hw => ?_)
  refine r_callS (rest := []) (As := [.int v1, .int v2, .int v5]) C sg_J9_sub q444 q445 q89 q446 rfl (Nat.le_of_ble_eq_true rfl) dJ9_size_13 rfl (Nat.le_refl _) (Nat.le_refl _) (c_J9_sub G l v1 v2 v5 h _ hw) (k_I (fun r6 h7 hw => ?_))
  exact r_ireturn C dJ9_size_16 (Nat.le_refl _) (Nat.le_refl _) ⟨_, rfl, hw⟩
def w_J25_init (a0 : Nat) (a1 : Nat) (h : Hp) (Q : Hp → Prop) : Prop :=
  pf h a0 13 3 (.ref a1) (fun h1 => pf h1 a0 13 1 (.int (-1 : Int32)) (fun h2 => gfR h2 a0 13 3 (fun v3 => nn v3 (fun y4 => gfI h2 y4 8 0 (fun v5 => pf h2 a0 13 2 (.int v5) (fun h6 => Q h6))))))
theorem sg_J25_init : ySg yJ25_init 1 = true := by decide +kernel
theorem c_J25_init (G : gT) (l : Launch) (a0 : Nat) (a1 : Nat) (h : Hp) (Q : Hp → Prop) (hw : w_J25_init a0 a1 h Q) : Ct G l yJ25_init (ws_ yJ25_init cJ25_init 2 (none)) 1 12 0 0 [.ref a0, .ref a1] h (pV Q) := by
  refine Ct.of (own := RJ25) true (by decide +kernel) rfl (show (_ : Nat) ≤ _ from Nat.le_of_ble_eq_true rfl) (fun _ => rfl) (fun V C => ?_)
  show V h 0 0 0 [(0, .ref a0), (1, .ref a1)] []
  unfold w_J25_init at hw
  refine r_aload_n C rfl 0 rfl dJ25_init_0 (r_aload_n C rfl 1 rfl dJ25_init_1 ?_)
  refine r_pf (k := 3) (v := .ref a1) C kJ25 (by decide) (Or.inl q1067) (Or.inl rfl) (Or.inr ⟨rfl, rfl, q1067⟩) rfl rfl dJ25_init_2 hw (fun h1 hw => ?_)
  refine r_aload_n C rfl 0 rfl dJ25_init_5 ?_
  refine r_objInit C q1061 q128 q129 (by decide) (by decide) dJ25_init_6 ?_
  refine r_aload_n C rfl 0 rfl dJ25_init_9 (r_iconst (v := (-1 : Int32)) C (by decide) dJ25_init_10 ?_)
  refine r_pf (k := 1) (v := .int (-1 : Int32)) C kJ25 (by decide) (Or.inl q1065) (Or.inl rfl) (Or.inl rfl) rfl rfl dJ25_init_11 hw (fun h2 hw => ?_)
  refine r_aload_n C rfl 0 rfl dJ25_init_14 (r_aload_n C rfl 0 rfl dJ25_init_15 ?_)
  refine r_gfR (k := 3) C kJ25 (by decide) (Or.inl q1067) (Or.inl rfl) dJ25_init_16 hw (fun v3 hw => ?_)
  obtain ⟨y4, rfl, hw_y4⟩ := hw
  have hw := hw_y4
  refine r_gfI (k := 0) C kJ2 (by decide) (Or.inl q157) (Or.inr q158) dJ25_init_19 hw (fun v5 hw => ?_)
  refine r_pf (k := 2) (v := .int v5) C kJ25 (by decide) (Or.inl q1066) (Or.inl rfl) (Or.inl rfl) rfl rfl dJ25_init_22 hw (fun h6 hw => ?_)
  exact r_return C dJ25_init_25 (Nat.le_refl _) (Nat.le_refl _) ⟨rfl, hw⟩
def w_J25_checkForComodification (a0 : Nat) (h : Hp) (Q : Hp → Prop) : Prop :=
  gfR h a0 13 3 (fun v1 => nn v1 (fun y2 => gfI h y2 8 0 (fun v3 => gfI h a0 13 2 (fun v4 => (v3 = v4 → Q h) ∧ (¬ v3 = v4 → False)))))
theorem sg_J25_checkForComodification : ySg yJ25_checkForComodification 0 = true := by decide +kernel
theorem c_J25_checkForComodification (G : gT) (l : Launch) (a0 : Nat) (h : Hp) (Q : Hp → Prop) (hw : w_J25_checkForComodification a0 h Q) : Ct G l yJ25_checkForComodification (ws_ yJ25_checkForComodification cJ25_checkForComodification 1 (none)) 1 12 0 0 [.ref a0] h (pV Q) := by
  refine Ct.of (own := RJ25) false (by decide +kernel) rfl (show (_ : Nat) ≤ _ from Nat.le_of_ble_eq_true rfl) (fun z => by cases z) (fun V C => ?_)
  show V h 0 0 0 [(0, .ref a0)] []
  unfold w_J25_checkForComodification at hw
  refine r_aload_n C rfl 0 rfl dJ25_checkForComodification_0 ?_
  refine r_gfR (k := 3) C kJ25 (by decide) (Or.inl q1067) (Or.inl rfl) dJ25_checkForComodification_1 hw (fun v1 hw => ?_)
  obtain ⟨y2, rfl, hw_y2⟩ := hw
  have hw := hw_y2
  refine r_gfI (k := 0) C kJ2 (by decide) (Or.inl q157) (Or.inr q158) dJ25_checkForComodification_4 hw (fun v3 hw => ?_)
  refine r_aload_n C rfl 0 rfl dJ25_checkForComodification_7 ?_
  refine r_gfI (k := 2) C kJ25 (by decide) (Or.inl q1066) (Or.inl rfl) dJ25_checkForComodification_8 hw (fun v4 hw => ?_)
  refine r_icmp_eq (tgt := 22) C (by decide) dJ25_checkForComodification_11 (fun hc5 => ?_) (fun hc5 => ?_)
  · have hw := hw.1 hc5
    exact r_return C dJ25_checkForComodification_22 (Nat.le_refl _) (Nat.le_refl _) ⟨rfl, hw⟩
  · have hw := hw.2 hc5
    exact hw.elim
def w_J25_hasNext (a0 : Nat) (h : Hp) (Q : Bool → Hp → Prop) : Prop :=
  gfI h a0 13 0 (fun v1 => gfR h a0 13 3 (fun v2 => nn v2 (fun y3 => gfI h y3 8 2 (fun v4 => Q (if v1 = v4 then false else true) h))))
theorem sg_J25_hasNext : ySg yJ25_hasNext 0 = true := by decide +kernel
theorem c_J25_hasNext (G : gT) (l : Launch) (a0 : Nat) (h : Hp) (Q : Bool → Hp → Prop) (hw : w_J25_hasNext a0 h Q) : Ct G l yJ25_hasNext (ws_ yJ25_hasNext cJ25_hasNext 1 (some .boolean)) 1 12 0 0 [.ref a0] h (pZ Q) := by
  refine Ct.of (own := RJ25) false (by decide +kernel) rfl (show (_ : Nat) ≤ _ from Nat.le_of_ble_eq_true rfl) (fun z => by cases z) (fun V C => ?_)
  show V h 0 0 0 [(0, .ref a0)] []
  unfold w_J25_hasNext at hw
  refine r_aload_n C rfl 0 rfl dJ25_hasNext_0 ?_
  refine r_gfI (k := 0) C kJ25 (by decide) (Or.inl q1064) (Or.inl rfl) dJ25_hasNext_1 hw (fun v1 hw => ?_)
  refine r_aload_n C rfl 0 rfl dJ25_hasNext_4 ?_
  refine r_gfR (k := 3) C kJ25 (by decide) (Or.inl q1067) (Or.inl rfl) dJ25_hasNext_5 hw (fun v2 hw => ?_)
  obtain ⟨y3, rfl, hw_y3⟩ := hw
  have hw := hw_y3
  refine r_gfI (k := 2) C kJ2 (by decide) (Or.inr ⟨_, (List.mem_of_getElem? (i := 0) rfl)⟩) (Or.inl rfl) dJ25_hasNext_8 hw (fun v4 hw => ?_)
  have hJ : V h 0 0 19 [] [.int (bI (if v1 = v4 then false else true))] := by
    exact r_zreturn (x := (if v1 = v4 then false else true)) C dJ25_hasNext_19 (Nat.le_refl _) (Nat.le_refl _) ⟨_, rfl, hw⟩
  refine r_icmp_eq (tgt := 18) C (by decide) dJ25_hasNext_11 (fun hc5 => ?_) (fun hc5 => ?_)
  · have hJ6 := hJ
    try simp only [if_pos hc5] at hJ6
    refine r_iconst (v := (0 : Int32)) C (by decide) dJ25_hasNext_18 ?_
    exact r_sub C [] rfl hJ6
  · have hJ6 := hJ
    try simp only [if_neg hc5] at hJ6
    refine r_iconst (v := (1 : Int32)) C (by decide) dJ25_hasNext_14 (r_goto (tgt := 19) C (by decide) dJ25_hasNext_15 ?_)
    exact r_sub C [] rfl hJ6
def w_J25_next (a0 : Nat) (h : Hp) (Q : Option Nat → Hp → Prop) : Prop :=
  hasC h a0 13 ∧ (w_J25_checkForComodification a0 h (fun h3 => gfI h3 a0 13 0 (fun v4 => gfR h3 a0 13 3 (fun v5 => nn v5 (fun y6 => gfI h3 y6 8 2 (fun v7 => (v4 < v7 → gfR h3 a0 13 3 (fun v9 => nn v9 (fun y10 => gfR h3 y10 8 1 (fun v11 => nn v11 (fun y12 => alen h3 y12 (fun v13 => (v4 < v13 → pf h3 a0 13 0 (.int (v4 + (1 : Int32))) (fun h15 => pf h15 a0 13 1 (.int v4) (fun h16 => rdR 2 h16 y12 v4 (fun v17 => Q v17 h16)))) ∧ (¬ v4 < v13 → False))))))) ∧ (¬ v4 < v7 → False)))))))
theorem sg_J25_next : ySg yJ25_next 0 = true := by decide +kernel
theorem c_J25_next (G : gT) (l : Launch) (a0 : Nat) (h : Hp) (Q : Option Nat → Hp → Prop) (hw : w_J25_next a0 h Q) : Ct G l yJ25_next (ws_ yJ25_next cJ25_next 3 (some (.object "java/lang/Object"))) 2 32 0 0 [.ref a0] h (pR Q) := by
  refine Ct.of (own := RJ25) false (by decide +kernel) rfl (show (_ : Nat) ≤ _ from Nat.le_of_ble_eq_true rfl) (fun z => by cases z) (fun V C => ?_)
  show V h 0 0 0 [(0, .ref a0)] []
  unfold w_J25_next at hw
  refine r_aload_n C rfl 0 rfl dJ25_next_0 ?_
  obtain ⟨hq1, hw⟩ := hw
  refine r_callV (ci := 13) (rest := []) (As := []) C sg_J25_checkForComodification rfl rfl q1303 q1304 q1305 q110 q1308 rfl (Nat.le_of_ble_eq_true rfl) dJ25_next_1 rfl hq1 (Nat.le_refl _) (Nat.le_refl _) (c_J25_checkForComodification G l a0 h _ hw) (k_V (fun h3 hw => ?_))
  refine r_aload_n C rfl 0 rfl dJ25_next_4 ?_
  refine r_gfI (k := 0) C kJ25 (by decide) (Or.inl q1064) (Or.inl rfl) dJ25_next_5 hw (fun v4 hw => ?_)
  refine r_istore_n (L' := [(1, .int v4), (0, .ref a0)]) C rfl (by decide) rfl dJ25_next_8 (r_iload_n C rfl 0 rfl dJ25_next_9 (r_aload_n C rfl 1 rfl dJ25_next_10 ?_))
  refine r_gfR (k := 3) C kJ25 (by decide) (Or.inl q1067) (Or.inl rfl) dJ25_next_11 hw (fun v5 hw => ?_)
  obtain ⟨y6, rfl, hw_y6⟩ := hw
  have hw := hw_y6
  refine r_gfI (k := 2) C kJ2 (by decide) (Or.inr ⟨_, (List.mem_of_getElem? (i := 0) rfl)⟩) (Or.inl rfl) dJ25_next_14 hw (fun v7 hw => ?_)
  refine r_icmp_lt (tgt := 28) C (by decide) dJ25_next_17 (fun hc8 => ?_) (fun hc8 => ?_)
  · have hw := hw.1 hc8
    refine r_aload_n C rfl 1 rfl dJ25_next_28 ?_
    refine r_gfR (k := 3) C kJ25 (by decide) (Or.inl q1067) (Or.inl rfl) dJ25_next_29 hw (fun v9 hw => ?_)
    obtain ⟨y10, rfl, hw_y10⟩ := hw
    have hw := hw_y10
    refine r_gfR (k := 1) C kJ2 (by decide) (Or.inl q151) (Or.inl rfl) dJ25_next_32 hw (fun v11 hw => ?_)
    refine r_astore_nO (x := v11) (L' := [(2, va_rf v11), (1, .int v4), (0, .ref a0)]) C rfl (by decide) rfl dJ25_next_35 (r_iload_n C rfl 1 rfl dJ25_next_36 (r_aload_nO C rfl 0 rfl dJ25_next_37 ?_))
    obtain ⟨y12, rfl, hw_y12⟩ := hw
    have hw := hw_y12
    refine r_alen C dJ25_next_38 hw (fun v13 hw => ?_)
    refine r_icmp_lt (tgt := 50) C (by decide) dJ25_next_39 (fun hc14 => ?_) (fun hc14 => ?_)
    · have hw := hw.1 hc14
      refine r_aload_n C rfl 2 rfl dJ25_next_50 (r_iload_n C rfl 1 rfl dJ25_next_51 (r_iconst (v := (1 : Int32)) C (by decide) dJ25_next_52 (r_iadd C dJ25_next_53 ?_)))
      refine r_pf (k := 0) (v := .int (v4 + (1 : Int32))) C kJ25 (by decide) (Or.inl q1064) (Or.inl rfl) (Or.inl rfl) rfl rfl dJ25_next_54 hw (fun h15 hw => ?_)
      refine r_aload_n C rfl 0 rfl dJ25_next_57 (r_aload_n C rfl 2 rfl dJ25_next_58 (r_iload_n C rfl 1 rfl dJ25_next_59 (r_dup_x1 C rfl rfl dJ25_next_60 ?_)))
      refine r_pf (k := 1) (v := .int v4) C kJ25 (by decide) (Or.inl q1065) (Or.inl rfl) (Or.inl rfl) rfl rfl dJ25_next_61 hw (fun h16 hw => ?_)
      refine r_aaload (t := 2) C rfl dJ25_next_64 hw (fun v17 hw => ?_)
      exact r_areturn (x := v17) C (by first | exact Or.inl ⟨_, rfl⟩ | exact Or.inr ⟨_, rfl⟩) dJ25_next_65 (Nat.le_refl _) (Nat.le_refl _) ⟨_, rfl, hw⟩
    · have hw := hw.2 hc14
      exact hw.elim
  · have hw := hw.2 hc8
    exact hw.elim
def w_J2_init (G : gT) (a0 : Nat) (h : Hp) (Q : Hp → Prop) : Prop :=
  w_J1_initA a0 h (fun h2 => pf h2 a0 8 1 (.ref (gE0 G)) (fun h3 => Q h3))
theorem sg_J2_init : ySg yJ2_init 0 = true := by decide +kernel
theorem c_J2_init (G : gT) (l : Launch) (a0 : Nat) (h : Hp) (Q : Hp → Prop) (hw : w_J2_init G a0 h Q) : Ct G l yJ2_init (ws_ yJ2_init cJ2_init 1 (none)) 3 52 0 0 [.ref a0] h (pV Q) := by
  refine Ct.of (own := RJ2) true (by decide +kernel) rfl (show (_ : Nat) ≤ _ from Nat.le_of_ble_eq_true rfl) (fun _ => rfl) (fun V C => ?_)
  show V h 0 0 0 [(0, .ref a0)] []
  unfold w_J2_init at hw
  refine r_aload_n C rfl 0 rfl dJ2_init_0 ?_
  refine r_callI (rest := []) (As := []) C sg_J1_init rfl q141 q142 q80 q143 rfl (Nat.le_of_ble_eq_true rfl) dJ2_init_1 rfl (Nat.le_refl _) (Nat.le_refl _) (c_J1_initA G l a0 h _ hw) (k_V (fun h2 hw => ?_))
  refine r_aload_n C rfl 0 rfl dJ2_init_4 ?_
  refine r_getE0 C q148 dJ2_init_5 ?_
  refine r_pf (k := 1) (v := .ref (gE0 G)) C kJ2 (by decide) (Or.inl q150) (Or.inl rfl) (Or.inl rfl) rfl rfl dJ2_init_8 hw (fun h3 hw => ?_)
  exact r_return C dJ2_init_11 (Nat.le_refl _) (Nat.le_refl _) ⟨rfl, hw⟩
def B_J5_newLength_21 (Q : Int32 → Hp → Prop) (h : Hp) (x0 : Int32) (x1 : Int32) : Prop :=
  False
def w_J5_newLength (i0 : Int32) (i1 : Int32) (i2 : Int32) (h : Hp) (Q : Int32 → Hp → Prop) : Prop :=
  ((i0 + (if i1 < i2 then i2 else i1)) ≤ (0 : Int32) → B_J5_newLength_21 Q h i0 i1) ∧ (¬ (i0 + (if i1 < i2 then i2 else i1)) ≤ (0 : Int32) → ((2147483639 : Int32) < (i0 + (if i1 < i2 then i2 else i1)) → B_J5_newLength_21 Q h i0 i1) ∧ (¬ (2147483639 : Int32) < (i0 + (if i1 < i2 then i2 else i1)) → Q (i0 + (if i1 < i2 then i2 else i1)) h))
theorem b_J5_newLength_21 {G : gT} {l : Launch} {V : Hp → Nat → Nat → Nat → List (Nat × Value) → List Value → Prop} {Q : Int32 → Hp → Prop} (C : Cx G l V cJ5_newLength 4 RJ5 1 60 0 0 (pI Q) none (some .int) [] false) (h : Hp) (x0 : Int32) (x1 : Int32) (hw : B_J5_newLength_21 Q h x0 x1) : V h 0 0 21 [(0, .int x0), (1, .int x1)] [] := by
  unfold B_J5_newLength_21 at hw
  refine r_iload_n C rfl 0 rfl dJ5_newLength_21 (r_iload_n C rfl 1 rfl dJ5_newLength_22 ?_)
  exact hw.elim
theorem sg_J5_newLength : ySg yJ5_newLength 3 = true := by decide +kernel
theorem c_J5_newLength (G : gT) (l : Launch) (i0 : Int32) (i1 : Int32) (i2 : Int32) (h : Hp) (Q : Int32 → Hp → Prop) (hw : w_J5_newLength i0 i1 i2 h Q) : Ct G l yJ5_newLength (ws_ yJ5_newLength cJ5_newLength 4 (some .int)) 1 60 0 0 [.int i0, .int i1, .int i2] h (pI Q) := by
  refine Ct.of (own := RJ5) false (by decide +kernel) rfl (show (_ : Nat) ≤ _ from Nat.le_of_ble_eq_true rfl) (fun z => by cases z) (fun V C => ?_)
  show V h 0 0 0 [(0, .int i0), (1, .int i1), (2, .int i2)] []
  unfold w_J5_newLength at hw
  refine r_iload_n C rfl 0 rfl dJ5_newLength_0 (r_iload_n C rfl 1 rfl dJ5_newLength_1 (r_iload_n C rfl 2 rfl dJ5_newLength_2 ?_))
  refine r_mmmax C q216 q217 q85 q218 dJ5_newLength_3 (Nat.le_refl _) (Nat.le_refl _) ⟨Nat.le_of_ble_eq_true rfl, Nat.le_of_ble_eq_true rfl⟩ ?_
  refine r_iadd C dJ5_newLength_6 (r_istore_n (L' := [(3, .int (i0 + (if i1 < i2 then i2 else i1))), (0, .int i0), (1, .int i1), (2, .int i2)]) C rfl (by decide) rfl dJ5_newLength_7 (r_iconst (v := (0 : Int32)) C (by decide) dJ5_newLength_8 (r_iload_n C rfl 0 rfl dJ5_newLength_9 ?_)))
  refine r_icmp_ge (tgt := 21) C (by decide) dJ5_newLength_10 (fun hc1 => ?_) (fun hc1 => ?_)
  · have hw := hw.1 hc1
    exact r_sub C [1, 2] rfl (b_J5_newLength_21 C _ _ _ hw)
  · have hw := hw.2 hc1
    refine r_iload_n C rfl 0 rfl dJ5_newLength_13 (r_ldc (v := (2147483639 : Int32)) C q219 dJ5_newLength_14 ?_)
    refine r_icmp_gt (tgt := 21) C (by decide) dJ5_newLength_16 (fun hc2 => ?_) (fun hc2 => ?_)
    · have hw := hw.1 hc2
      exact r_sub C [1, 2] rfl (b_J5_newLength_21 C _ _ _ hw)
    · have hw := hw.2 hc2
      refine r_iload_n C rfl 0 rfl dJ5_newLength_19 ?_
      exact r_ireturn C dJ5_newLength_20 (Nat.le_refl _) (Nat.le_refl _) ⟨_, rfl, hw⟩
def w_J7_copyOf_2 (G : gT) (mc ms : Nat) (a0 : Nat) (i1 : Int32) (a2 : Nat) (h : Hp) (Q : Option Nat → Hp → Prop) : Prop :=
  (¬ (some a2) = (some (gMi G)) → False) ∧ ((some a2) = (some (gMi G)) → ¬ i1 < 0 ∧ i1.toNatClampNeg ≤ 60000 ∧ (0 + 1 ≤ mc ∧ 0 + i1.toNatClampNeg ≤ ms ∧ (nwA h 2 (i1.toNatClampNeg, .inr (.inr (.inr (.inr (fun _ => none))))) (fun q6 h7 => alen h7 a0 (fun v8 => cpR h7 a0 (0 : Int32) q6 (0 : Int32) (if i1 < v8 then i1 else v8) (fun h9 => Q (some q6) h9))))))
theorem sg_J7_copyOf_2 : ySg yJ7_copyOf_2 3 = true := by decide +kernel
theorem c_J7_copyOf_2 (G : gT) (l : Launch) (mc ms : Nat) (a0 : Nat) (i1 : Int32) (a2 : Nat) (h : Hp) (Q : Option Nat → Hp → Prop) (hw : w_J7_copyOf_2 G mc ms a0 i1 a2 h Q) : Ct G l yJ7_copyOf_2 (ws_ yJ7_copyOf_2 cJ7_copyOf_2 4 (some (.array (.object "java/lang/Object")))) 1 60 mc ms [.ref a0, .int i1, .ref a2] h (pR Q) := by
  refine Ct.of (own := RJ7) false (by decide +kernel) rfl (show (_ : Nat) ≤ _ from Nat.le_of_ble_eq_true rfl) (fun z => by cases z) (fun V C => ?_)
  show V h 0 0 0 [(0, .ref a0), (1, .int i1), (2, .ref a2)] []
  unfold w_J7_copyOf_2 at hw
  refine r_aload_n C rfl 2 rfl dJ7_copyOf_2_0 (r_ldcM C q259 dJ7_copyOf_2_1 ?_)
  refine r_acmp_ne (x := some a2) (y := some (gMi G)) (tgt := 13) C (by decide) dJ7_copyOf_2_3 (fun hc1 => ?_) (fun hc1 => ?_)
  · have hw := hw.1 hc1
    refine r_aload_n C rfl 2 rfl dJ7_copyOf_2_13 ?_
    exact hw.elim
  · have hw := hw.2 hc1
    refine r_iload_n C rfl 1 rfl dJ7_copyOf_2_6 ?_
    obtain ⟨hz2, hz3, hw⟩ := hw
    obtain ⟨hp4, hp5, hw⟩ := hw
    refine r_newq (N := i1.toNatClampNeg) (t := 2) C q261 (by decide) (by decide) rfl hz2 rfl hz3 dJ7_copyOf_2_7 hp4 hp5 hw (fun q6 h7 hw => ?_)
    refine r_goto (tgt := 24) C (by decide) dJ7_copyOf_2_10 (r_astore_n (L' := [(3, .ref q6), (0, .ref a0), (1, .int i1), (2, .ref a2)]) C rfl (by decide) rfl dJ7_copyOf_2_24 (r_aload_n C rfl 1 rfl dJ7_copyOf_2_25 (r_iconst (v := (0 : Int32)) C (by decide) dJ7_copyOf_2_26 (r_aload_n C rfl 0 rfl dJ7_copyOf_2_27 (r_iconst (v := (0 : Int32)) C (by decide) dJ7_copyOf_2_28 ?_)))))
    refine r_aload_n C rfl 1 rfl dJ7_copyOf_2_29 ?_
    refine r_alen C dJ7_copyOf_2_30 hw (fun v8 hw => ?_)
    refine r_iload_n C rfl 2 rfl dJ7_copyOf_2_31 ?_
    refine r_mmmin C q262 q263 q85 q264 dJ7_copyOf_2_32 hp4 hp5 ⟨Nat.le_of_ble_eq_true rfl, Nat.le_of_ble_eq_true rfl⟩ ?_
    refine r_cpR C ⟨q265, q267, q266, q87⟩ (by decide) (by decide) dJ7_copyOf_2_35 hw (fun h9 hw => ?_)
    refine r_aload_n C rfl 0 rfl dJ7_copyOf_2_38 ?_
    exact r_areturn (x := some q6) C (by first | exact Or.inl ⟨_, rfl⟩ | exact Or.inr ⟨_, rfl⟩) dJ7_copyOf_2_39 hp4 hp5 ⟨_, rfl, hw⟩
def w_J7_copyOf (G : gT) (mc ms : Nat) (a0 : Nat) (i1 : Int32) (h : Hp) (Q : Option Nat → Hp → Prop) : Prop :=
  ∃ w2 : vp_A, h a0 = some (eA 2 w2) ∧ (∃ k5 k6 : Nat, 0 + k5 ≤ mc ∧ 0 + k6 ≤ ms ∧ (w_J7_copyOf_2 G k5 k6 a0 i1 (gMi G) h (fun r3 h4 => Q r3 h4)))
theorem sg_J7_copyOf : ySg yJ7_copyOf 2 = true := by decide +kernel
theorem c_J7_copyOf (G : gT) (l : Launch) (mc ms : Nat) (a0 : Nat) (i1 : Int32) (h : Hp) (Q : Option Nat → Hp → Prop) (hw : w_J7_copyOf G mc ms a0 i1 h Q) : Ct G l yJ7_copyOf (ws_ yJ7_copyOf cJ7_copyOf 2 (some (.array (.object "java/lang/Object")))) 2 83 mc ms [.ref a0, .int i1] h (pR Q) := by
  refine Ct.of (own := RJ7) false (by decide +kernel) rfl (show (_ : Nat) ≤ _ from Nat.le_of_ble_eq_true rfl) (fun z => by cases z) (fun V C => ?_)
  show V h 0 0 0 [(0, .ref a0), (1, .int i1)] []
  unfold w_J7_copyOf at hw
  refine r_aload_n C rfl 0 rfl dJ7_copyOf_0 (r_iload_n C rfl 1 rfl dJ7_copyOf_1 (r_aload_n C rfl 0 rfl dJ7_copyOf_2 ?_))
  obtain ⟨w2, e1, hw⟩ := hw
  refine r_getC C q226 q2684 q227 q255 (by decide) (by decide) (by simp [Value.category]) dJ7_copyOf_3 e1 ?_
  obtain ⟨k5, k6, hp7, hp8, hw⟩ := hw
  refine r_callS (rest := []) (As := [.ref a0, .int i1, .ref (gMi G)]) C sg_J7_copyOf_2 q256 q257 q86 q258 rfl (Nat.le_of_ble_eq_true rfl) dJ7_copyOf_6 rfl hp7 hp8 (c_J7_copyOf_2 G l k5 k6 a0 i1 (gMi G) h _ hw) (k_R (fun r3 h4 hw => ?_))
  exact r_areturn (x := r3) C (by first | exact Or.inl ⟨_, rfl⟩ | exact Or.inr ⟨_, rfl⟩) dJ7_copyOf_9 hp7 hp8 ⟨_, rfl, hw⟩
def B_J2_grow_2_20 (G : gT) (mc ms : Nat) (Q : Option Nat → Hp → Prop) (h : Hp) (c : Nat) (n : Nat) (x0 : Nat) (x1 : Int32) (x2 : Int32) : Prop :=
  w_J5_newLength x2 (x1 - x2) (x2 >>> ((1 : Int32) &&& 31)) h (fun r1 h2 => gfR h2 x0 8 1 (fun v3 => nn v3 (fun y4 => ∃ k7 k8 : Nat, c + k7 ≤ mc ∧ n + k8 ≤ ms ∧ (w_J7_copyOf G k7 k8 y4 r1 h2 (fun r5 h6 => pf h6 x0 8 1 (va_rf r5) (fun h11 => Q r5 h11))))))
def w_J2_grow_2 (G : gT) (mc ms : Nat) (a0 : Nat) (i1 : Int32) (h : Hp) (Q : Option Nat → Hp → Prop) : Prop :=
  gfR h a0 8 1 (fun v12 => nn v12 (fun y13 => alenE G h y13 (fun v14 => (0 < v14 → B_J2_grow_2_20 G mc ms Q h 0 0 a0 i1 v14) ∧ (¬ 0 < v14 → gfR h a0 8 1 (fun v16 => (v16 = (some (gE0 G)) → ¬ (if (10 : Int32) < i1 then i1 else (10 : Int32)) < 0 ∧ (if (10 : Int32) < i1 then i1 else (10 : Int32)).toNatClampNeg ≤ 60000 ∧ (0 + 1 ≤ mc ∧ 0 + (if (10 : Int32) < i1 then i1 else (10 : Int32)).toNatClampNeg ≤ ms ∧ (nwA h 2 ((if (10 : Int32) < i1 then i1 else (10 : Int32)).toNatClampNeg, .inr (.inr (.inr (.inr (fun _ => none))))) (fun q22 h23 => pf h23 a0 8 1 (.ref q22) (fun h24 => Q (some q22) h24))))) ∧ (¬ v16 = (some (gE0 G)) → B_J2_grow_2_20 G mc ms Q h 0 0 a0 i1 v14))))))
theorem b_J2_grow_2_20 {G : gT} {l : Launch} {V : Hp → Nat → Nat → Nat → List (Nat × Value) → List Value → Prop} {mc ms : Nat} {Q : Option Nat → Hp → Prop} (C : Cx G l V cJ2_grow_2 4 RJ2 3 104 mc ms (pR Q) none (some (.array (.object "java/lang/Object"))) [] false) (h : Hp) (c : Nat) (n : Nat) (x0 : Nat) (x1 : Int32) (x2 : Int32) (b1 : c ≤ mc) (b2 : n ≤ ms) (hw : B_J2_grow_2_20 G mc ms Q h c n x0 x1 x2) : V h c n 20 [(0, .ref x0), (1, .int x1), (2, .int x2)] [] := by
  unfold B_J2_grow_2_20 at hw
  refine r_iload_n C rfl 2 rfl dJ2_grow_2_20 (r_iload_n C rfl 1 rfl dJ2_grow_2_21 (r_iload_n C rfl 2 rfl dJ2_grow_2_22 (r_isub C dJ2_grow_2_23 (r_iload_n C rfl 2 rfl dJ2_grow_2_24 (r_iconst (v := (1 : Int32)) C (by decide) dJ2_grow_2_25 ?_)))))
  refine r_ishr C dJ2_grow_2_26 ?_
  refine r_callS (rest := []) (As := [.int x2, .int (x1 - x2), .int (x2 >>> ((1 : Int32) &&& 31))]) C sg_J5_newLength q213 q214 q84 q215 rfl (Nat.le_of_ble_eq_true rfl) dJ2_grow_2_27 rfl b1 b2 (c_J5_newLength G l x2 (x1 - x2) (x2 >>> ((1 : Int32) &&& 31)) h _ hw) (k_I (fun r1 h2 hw => ?_))
  refine r_istore_n (L' := [(3, .int r1), (0, .ref x0), (1, .int x1), (2, .int x2)]) C rfl (by decide) rfl dJ2_grow_2_30 (r_aload_n C rfl 1 rfl dJ2_grow_2_31 (r_aload_n C rfl 1 rfl dJ2_grow_2_32 ?_))
  refine r_gfR (k := 1) C kJ2 (by decide) (Or.inl q150) (Or.inl rfl) dJ2_grow_2_33 hw (fun v3 hw => ?_)
  refine r_iload_n C rfl 0 rfl dJ2_grow_2_36 ?_
  obtain ⟨y4, rfl, hw_y4⟩ := hw
  have hw := hw_y4
  obtain ⟨k7, k8, hp9, hp10, hw⟩ := hw
  refine r_callS (rest := [.ref x0]) (As := [.ref y4, .int r1]) C sg_J7_copyOf q223 q224 q86 q225 rfl (Nat.le_of_ble_eq_true rfl) dJ2_grow_2_37 rfl hp9 hp10 (c_J7_copyOf G l k7 k8 y4 r1 h2 _ hw) (k_R (fun r5 h6 hw => ?_))
  refine r_dup_x1 C (va_rf_cat _) rfl dJ2_grow_2_40 ?_
  refine r_pf (k := 1) (v := va_rf r5) C kJ2 (by decide) (Or.inl q150) (Or.inl rfl) (Or.inl rfl) (n_rfA _ _) (f_rfA _ _) dJ2_grow_2_41 hw (fun h11 hw => ?_)
  exact r_areturn (x := r5) C (by first | exact Or.inl ⟨_, rfl⟩ | exact Or.inr ⟨_, rfl⟩) dJ2_grow_2_44 hp9 hp10 ⟨_, rfl, hw⟩
theorem sg_J2_grow_2 : ySg yJ2_grow_2 1 = true := by decide +kernel
theorem c_J2_grow_2 (G : gT) (l : Launch) (mc ms : Nat) (a0 : Nat) (i1 : Int32) (h : Hp) (Q : Option Nat → Hp → Prop) (hw : w_J2_grow_2 G mc ms a0 i1 h Q) : Ct G l yJ2_grow_2 (ws_ yJ2_grow_2 cJ2_grow_2 4 (some (.array (.object "java/lang/Object")))) 3 104 mc ms [.ref a0, .int i1] h (pR Q) := by
  refine Ct.of (own := RJ2) false (by decide +kernel) rfl (show (_ : Nat) ≤ _ from Nat.le_of_ble_eq_true rfl) (fun z => by cases z) (fun V C => ?_)
  show V h 0 0 0 [(0, .ref a0), (1, .int i1)] []
  unfold w_J2_grow_2 at hw
  refine r_aload_n C rfl 0 rfl dJ2_grow_2_0 ?_
  refine r_gfR (k := 1) C kJ2 (by decide) (Or.inl q150) (Or.inl rfl) dJ2_grow_2_1 hw (fun v12 hw => ?_)
  obtain ⟨y13, rfl, hw_y13⟩ := hw
  have hw := hw_y13
  refine r_alenE C dJ2_grow_2_4 hw (fun v14 hw => ?_)
  refine r_istore_n (L' := [(2, .int v14), (0, .ref a0), (1, .int i1)]) C rfl (by decide) rfl dJ2_grow_2_5 (r_iload_n C rfl 0 rfl dJ2_grow_2_6 ?_)
  refine r_if_gt (tgt := 20) C (by decide) dJ2_grow_2_7 (fun hc15 => ?_) (fun hc15 => ?_)
  · have hw := hw.1 hc15
    exact r_sub C [1, 2, 0] rfl (b_J2_grow_2_20 C _ _ _ _ _ _ (Nat.zero_le _) (Nat.zero_le _) hw)
  · have hw := hw.2 hc15
    refine r_aload_n C rfl 1 rfl dJ2_grow_2_10 ?_
    refine r_gfR (k := 1) C kJ2 (by decide) (Or.inl q150) (Or.inl rfl) dJ2_grow_2_11 hw (fun v16 hw => ?_)
    refine r_getE0 C q148 dJ2_grow_2_14 ?_
    refine r_acmp_eq (x := v16) (y := some (gE0 G)) (tgt := 45) C (by decide) dJ2_grow_2_17 (fun hc17 => ?_) (fun hc17 => ?_)
    · have hw := hw.1 hc17
      refine r_aload_n C rfl 1 rfl dJ2_grow_2_45 (r_bipush (v := (10 : Int32)) C (by decide) dJ2_grow_2_46 (r_iload_n C rfl 2 rfl dJ2_grow_2_48 ?_))
      refine r_mmmax C q268 q217 q85 q218 dJ2_grow_2_49 (Nat.zero_le _) (Nat.zero_le _) ⟨Nat.le_of_ble_eq_true rfl, Nat.le_of_ble_eq_true rfl⟩ ?_
      obtain ⟨hz18, hz19, hw⟩ := hw
      obtain ⟨hp20, hp21, hw⟩ := hw
      refine r_newq (N := (if (10 : Int32) < i1 then i1 else (10 : Int32)).toNatClampNeg) (t := 2) C q269 (by decide) (by decide) rfl hz18 rfl hz19 dJ2_grow_2_52 hp20 hp21 hw (fun q22 h23 hw => ?_)
      refine r_dup_x1 C rfl rfl dJ2_grow_2_55 ?_
      refine r_pf (k := 1) (v := .ref q22) C kJ2 (by decide) (Or.inl q150) (Or.inl rfl) (Or.inl rfl) rfl rfl dJ2_grow_2_56 hw (fun h24 hw => ?_)
      exact r_areturn (x := some q22) C (by first | exact Or.inl ⟨_, rfl⟩ | exact Or.inr ⟨_, rfl⟩) dJ2_grow_2_59 hp20 hp21 ⟨_, rfl, hw⟩
    · have hw := hw.2 hc17
      exact r_sub C [1, 2, 0] rfl (b_J2_grow_2_20 C _ _ _ _ _ _ (Nat.zero_le _) (Nat.zero_le _) hw)
def w_J2_grow (G : gT) (mc ms : Nat) (a0 : Nat) (h : Hp) (Q : Option Nat → Hp → Prop) : Prop :=
  gfI h a0 8 2 (fun v1 => hasC h a0 8 ∧ (∃ k5 k6 : Nat, 0 + k5 ≤ mc ∧ 0 + k6 ≤ ms ∧ (w_J2_grow_2 G k5 k6 a0 (v1 + (1 : Int32)) h (fun r3 h4 => Q r3 h4))))
theorem sg_J2_grow : ySg yJ2_grow 0 = true := by decide +kernel
theorem c_J2_grow (G : gT) (l : Launch) (mc ms : Nat) (a0 : Nat) (h : Hp) (Q : Option Nat → Hp → Prop) (hw : w_J2_grow G mc ms a0 h Q) : Ct G l yJ2_grow (ws_ yJ2_grow cJ2_grow 1 (some (.array (.object "java/lang/Object")))) 4 127 mc ms [.ref a0] h (pR Q) := by
  refine Ct.of (own := RJ2) false (by decide +kernel) rfl (show (_ : Nat) ≤ _ from Nat.le_of_ble_eq_true rfl) (fun z => by cases z) (fun V C => ?_)
  show V h 0 0 0 [(0, .ref a0)] []
  unfold w_J2_grow at hw
  refine r_aload_n C rfl 0 rfl dJ2_grow_0 (r_aload_n C rfl 0 rfl dJ2_grow_1 ?_)
  refine r_gfI (k := 2) C kJ2 (by decide) (Or.inl q153) (Or.inl rfl) dJ2_grow_2 hw (fun v1 hw => ?_)
  refine r_iconst (v := (1 : Int32)) C (by decide) dJ2_grow_5 (r_iadd C dJ2_grow_6 ?_)
  obtain ⟨hq2, hw⟩ := hw
  obtain ⟨k5, k6, hp7, hp8, hw⟩ := hw
  refine r_callV (ci := 8) (rest := []) (As := [.int (v1 + (1 : Int32))]) C sg_J2_grow_2 rfl rfl q209 q211 qs2 q81 q212 rfl (Nat.le_of_ble_eq_true rfl) dJ2_grow_7 rfl hq2 hp7 hp8 (c_J2_grow_2 G l k5 k6 a0 (v1 + (1 : Int32)) h _ hw) (k_R (fun r3 h4 hw => ?_))
  exact r_areturn (x := r3) C (by first | exact Or.inl ⟨_, rfl⟩ | exact Or.inr ⟨_, rfl⟩) dJ2_grow_10 hp7 hp8 ⟨_, rfl, hw⟩
def B_J2_add_2_11 (G : gT) (mc ms : Nat) (Q : Hp → Prop) (h : Hp) (c : Nat) (n : Nat) (x0 : Nat) (x1 : Nat) (x2 : Option Nat) (x3 : Int32) : Prop :=
  nn x2 (fun y2 => wrR 2 h y2 x3 (some x1) (fun h1 => pf h1 x0 8 2 (.int (x3 + (1 : Int32))) (fun h3 => Q h3)))
def w_J2_add_2 (G : gT) (mc ms : Nat) (a0 : Nat) (a1 : Nat) (a2 : Nat) (i3 : Int32) (h : Hp) (Q : Hp → Prop) : Prop :=
  alenE G h a2 (fun v4 => (¬ i3 = v4 → B_J2_add_2_11 G mc ms Q h 0 0 a0 a1 (some a2) i3) ∧ (i3 = v4 → hasC h a0 8 ∧ (∃ k9 k10 : Nat, 0 + k9 ≤ mc ∧ 0 + k10 ≤ ms ∧ (w_J2_grow G k9 k10 a0 h (fun r7 h8 => B_J2_add_2_11 G mc ms Q h8 (0 + k9) (0 + k10) a0 a1 r7 i3)))))
theorem b_J2_add_2_11 {G : gT} {l : Launch} {V : Hp → Nat → Nat → Nat → List (Nat × Value) → List Value → Prop} {mc ms : Nat} {Q : Hp → Prop} (C : Cx G l V cJ2_add_2 4 RJ2 5 147 mc ms (pV Q) none (none) [] false) (h : Hp) (c : Nat) (n : Nat) (x0 : Nat) (x1 : Nat) (x2 : Option Nat) (x3 : Int32) (b1 : c ≤ mc) (b2 : n ≤ ms) (hw : B_J2_add_2_11 G mc ms Q h c n x0 x1 x2 x3) : V h c n 11 [(0, .ref x0), (1, .ref x1), (2, va_rf x2), (3, .int x3)] [] := by
  unfold B_J2_add_2_11 at hw
  refine r_aload_nO C rfl 2 rfl dJ2_add_2_11 (r_iload_n C rfl 3 rfl dJ2_add_2_12 (r_aload_n C rfl 1 rfl dJ2_add_2_13 ?_))
  obtain ⟨y2, rfl, hw_y2⟩ := hw
  have hw := hw_y2
  refine r_aastore (t := 2) (x := some x1) C (by decide) rfl dJ2_add_2_14 hw (fun h1 hw => ?_)
  refine r_aload_n C rfl 0 rfl dJ2_add_2_15 (r_iload_n C rfl 3 rfl dJ2_add_2_16 (r_iconst (v := (1 : Int32)) C (by decide) dJ2_add_2_17 (r_iadd C dJ2_add_2_18 ?_)))
  refine r_pf (k := 2) (v := .int (x3 + (1 : Int32))) C kJ2 (by decide) (Or.inl q153) (Or.inl rfl) (Or.inl rfl) rfl rfl dJ2_add_2_19 hw (fun h3 hw => ?_)
  exact r_return C dJ2_add_2_22 b1 b2 ⟨rfl, hw⟩
theorem sg_J2_add_2 : ySg yJ2_add_2 3 = true := by decide +kernel
theorem c_J2_add_2 (G : gT) (l : Launch) (mc ms : Nat) (a0 : Nat) (a1 : Nat) (a2 : Nat) (i3 : Int32) (h : Hp) (Q : Hp → Prop) (hw : w_J2_add_2 G mc ms a0 a1 a2 i3 h Q) : Ct G l yJ2_add_2 (ws_ yJ2_add_2 cJ2_add_2 4 (none)) 5 147 mc ms [.ref a0, .ref a1, .ref a2, .int i3] h (pV Q) := by
  refine Ct.of (own := RJ2) false (by decide +kernel) rfl (show (_ : Nat) ≤ _ from Nat.le_of_ble_eq_true rfl) (fun z => by cases z) (fun V C => ?_)
  show V h 0 0 0 [(0, .ref a0), (1, .ref a1), (2, .ref a2), (3, .int i3)] []
  unfold w_J2_add_2 at hw
  refine r_iload_n C rfl 3 rfl dJ2_add_2_0 (r_aload_n C rfl 2 rfl dJ2_add_2_1 ?_)
  refine r_alenE C dJ2_add_2_2 hw (fun v4 hw => ?_)
  refine r_icmp_ne (tgt := 11) C (by decide) dJ2_add_2_3 (fun hc5 => ?_) (fun hc5 => ?_)
  · have hw := hw.1 hc5
    exact r_sub C [0, 1, 2, 3] rfl (b_J2_add_2_11 C _ _ _ _ _ _ _ (Nat.zero_le _) (Nat.zero_le _) hw)
  · have hw := hw.2 hc5
    refine r_aload_n C rfl 0 rfl dJ2_add_2_6 ?_
    obtain ⟨hq6, hw⟩ := hw
    obtain ⟨k9, k10, hp11, hp12, hw⟩ := hw
    refine r_callV (ci := 8) (rest := []) (As := []) C sg_J2_grow rfl rfl q205 q207 qs1 q81 q208 rfl (Nat.le_of_ble_eq_true rfl) dJ2_add_2_7 rfl hq6 hp11 hp12 (c_J2_grow G l k9 k10 a0 h _ hw) (k_R (fun r7 h8 hw => ?_))
    refine r_astore_nO (x := r7) (L' := [(2, va_rf r7), (0, .ref a0), (1, .ref a1), (3, .int i3)]) C rfl (by decide) rfl dJ2_add_2_10 ?_
    exact r_sub C [1, 2, 0, 3] rfl (b_J2_add_2_11 C _ _ _ _ _ _ _ hp11 hp12 hw)
def w_J2_add (G : gT) (mc ms : Nat) (a0 : Nat) (a1 : Nat) (h : Hp) (Q : Bool → Hp → Prop) : Prop :=
  gfI h a0 8 0 (fun v1 => pf h a0 8 0 (.int (v1 + (1 : Int32))) (fun h2 => gfR h2 a0 8 1 (fun v3 => gfI h2 a0 8 2 (fun v4 => nn v3 (fun y5 => hasC h2 a0 8 ∧ (∃ k9 k10 : Nat, 0 + k9 ≤ mc ∧ 0 + k10 ≤ ms ∧ (w_J2_add_2 G k9 k10 a0 a1 y5 v4 h2 (fun h8 => Q true h8))))))))
theorem sg_J2_add : ySg yJ2_add 1 = true := by decide +kernel
theorem c_J2_add (G : gT) (l : Launch) (mc ms : Nat) (a0 : Nat) (a1 : Nat) (h : Hp) (Q : Bool → Hp → Prop) (hw : w_J2_add G mc ms a0 a1 h Q) : Ct G l yJ2_add (ws_ yJ2_add cJ2_add 2 (some .boolean)) 6 170 mc ms [.ref a0, .ref a1] h (pZ Q) := by
  refine Ct.of (own := RJ2) false (by decide +kernel) rfl (show (_ : Nat) ≤ _ from Nat.le_of_ble_eq_true rfl) (fun z => by cases z) (fun V C => ?_)
  show V h 0 0 0 [(0, .ref a0), (1, .ref a1)] []
  unfold w_J2_add at hw
  refine r_aload_n C rfl 0 rfl dJ2_add_0 (r_dup C rfl dJ2_add_1 ?_)
  refine r_gfI (k := 0) C kJ2 (by decide) (Or.inl q161) (Or.inr q158) dJ2_add_2 hw (fun v1 hw => ?_)
  refine r_iconst (v := (1 : Int32)) C (by decide) dJ2_add_5 (r_iadd C dJ2_add_6 ?_)
  refine r_pf (k := 0) (v := .int (v1 + (1 : Int32))) C kJ2 (by decide) (Or.inl q161) (Or.inr q158) (Or.inl rfl) rfl rfl dJ2_add_7 hw (fun h2 hw => ?_)
  refine r_aload_n C rfl 0 rfl dJ2_add_10 (r_aload_n C rfl 1 rfl dJ2_add_11 (r_aload_n C rfl 0 rfl dJ2_add_12 ?_))
  refine r_gfR (k := 1) C kJ2 (by decide) (Or.inl q150) (Or.inl rfl) dJ2_add_13 hw (fun v3 hw => ?_)
  refine r_aload_n C rfl 0 rfl dJ2_add_16 ?_
  refine r_gfI (k := 2) C kJ2 (by decide) (Or.inl q153) (Or.inl rfl) dJ2_add_17 hw (fun v4 hw => ?_)
  obtain ⟨y5, rfl, hw_y5⟩ := hw
  have hw := hw_y5
  obtain ⟨hq6, hw⟩ := hw
  obtain ⟨k9, k10, hp11, hp12, hw⟩ := hw
  refine r_callV (ci := 8) (rest := []) (As := [.ref a1, .ref y5, .int v4]) C sg_J2_add_2 rfl rfl q201 q203 qs0 q81 q204 rfl (Nat.le_of_ble_eq_true rfl) dJ2_add_20 rfl hq6 hp11 hp12 (c_J2_add_2 G l k9 k10 a0 a1 y5 v4 h2 _ hw) (k_V (fun h8 hw => ?_))
  refine r_iconst (v := (1 : Int32)) C (by decide) dJ2_add_23 ?_
  exact r_zreturn (x := true) C dJ2_add_24 hp11 hp12 ⟨_, rfl, hw⟩
def S_J2_indexOfRange_13 (Q : Int32 → Hp → Prop) (LA13 : Hp → Int32 → (Option Nat) → Int32 → Prop) (h : Hp) (x3 : Int32) (x4 : Option Nat) (x5 : Int32) : Prop :=
  (x3 ≤ x5 → Q (-1 : Int32) h) ∧ (¬ x3 ≤ x5 → nn x4 (fun y2 => rdR 2 h y2 x5 (fun v3 => (v3 = none → Q x5 h) ∧ (∀ y4 : Nat, v3 = some y4 → LA13 h x3 (some y2) (x5 + (1 : Int32))))))
def B_J2_indexOfRange_13 (Q : Int32 → Hp → Prop) : Nat → Hp → Int32 → (Option Nat) → Int32 → Prop
  | 0, _, _, _, _ => False
  | k + 1, h, x3, x4, x5 => S_J2_indexOfRange_13 Q (B_J2_indexOfRange_13 Q k) h x3 x4 x5
def S_J2_indexOfRange_42 (Q : Int32 → Hp → Prop) (LA42 : Hp → Nat → Int32 → (Option Nat) → Int32 → Prop) (h : Hp) (x1 : Nat) (x3 : Int32) (x4 : Option Nat) (x5 : Int32) : Prop :=
  (x3 ≤ x5 → Q (-1 : Int32) h) ∧ (¬ x3 ≤ x5 → nn x4 (fun y7 => rdR 2 h y7 x5 (fun v8 => nn v8 (fun y9 => hasC h x1 12 ∧ (wj_J24_equals x1 y9 h (fun r11 h12 => (r11 = false → LA42 h12 x1 x3 (some y7) (x5 + (1 : Int32))) ∧ (r11 = true → Q x5 h12)))))))
def B_J2_indexOfRange_42 (Q : Int32 → Hp → Prop) : Nat → Hp → Nat → Int32 → (Option Nat) → Int32 → Prop
  | 0, _, _, _, _, _ => False
  | k + 1, h, x1, x3, x4, x5 => S_J2_indexOfRange_42 Q (B_J2_indexOfRange_42 Q k) h x1 x3 x4 x5
def w_J2_indexOfRange (a0 : Nat) (a1 : Nat) (i2 : Int32) (i3 : Int32) (h : Hp) (Q : Int32 → Hp → Prop) : Prop :=
  gfR h a0 8 1 (fun v14 => ∃ k9 : Nat, B_J2_indexOfRange_42 Q k9 h a1 i3 v14 i2)
theorem s_J2_indexOfRange_13 {G : gT} {l : Launch} {V : Hp → Nat → Nat → Nat → List (Nat × Value) → List Value → Prop} {Q : Int32 → Hp → Prop} (C : Cx G l V cJ2_indexOfRange 6 RJ2 3 53 0 0 (pI Q) none (some .int) [] false) (LA13 : Hp → Int32 → (Option Nat) → Int32 → Prop) (hLA13 : ∀ (h : Hp) (x3 : Int32) (x4 : Option Nat) (x5 : Int32), LA13 h x3 x4 x5 → V h 0 0 13 [(3, .int x3), (4, va_rf x4), (5, .int x5)] []) (h : Hp) (x3 : Int32) (x4 : Option Nat) (x5 : Int32) (hw : S_J2_indexOfRange_13 Q LA13 h x3 x4 x5) : V h 0 0 13 [(3, .int x3), (4, va_rf x4), (5, .int x5)] [] := by
  unfold S_J2_indexOfRange_13 at hw
  refine r_iload C 2 rfl dJ2_indexOfRange_13 (r_iload_n C rfl 0 rfl dJ2_indexOfRange_15 ?_)
  refine r_icmp_ge (tgt := 36) C (by decide) dJ2_indexOfRange_16 (fun hc1 => ?_) (fun hc1 => ?_)
  · have hw := hw.1 hc1
    refine r_goto (tgt := 69) C (by decide) dJ2_indexOfRange_36 (r_iconst (v := (-1 : Int32)) C (by decide) dJ2_indexOfRange_69 ?_)
    exact r_ireturn C dJ2_indexOfRange_70 (Nat.le_refl _) (Nat.le_refl _) ⟨_, rfl, hw⟩
  · have hw := hw.2 hc1
    refine r_aloadO C 1 rfl dJ2_indexOfRange_19 (r_iload C 2 rfl dJ2_indexOfRange_21 ?_)
    obtain ⟨y2, rfl, hw_y2⟩ := hw
    have hw := hw_y2
    refine r_aaload (t := 2) C rfl dJ2_indexOfRange_23 hw (fun v3 hw => ?_)
    refine r_ifnonnull (x := v3) (tgt := 30) C (by decide) dJ2_indexOfRange_24 (fun y4 hc5 => ?_) (fun hc5 => ?_)
    · have hw_y4 := hw.2 y4 hc5
      subst hc5
      have hw := hw_y4
      refine r_iinc (v := x5 + (1 : Int32)) (L' := [(5, .int (x5 + (1 : Int32))), (3, .int x3), (4, .ref y2)]) C (u := 2) rfl (by rfl) (by decide) rfl dJ2_indexOfRange_30 (r_goto (tgt := 13) C (by decide) dJ2_indexOfRange_33 ?_)
      exact r_sub C [1, 2, 0] rfl (hLA13 _ _ _ _ hw)
    · have hw_y4 := hw.1 hc5
      subst hc5
      have hw := hw_y4
      refine r_iload C 2 rfl dJ2_indexOfRange_27 ?_
      exact r_ireturn C dJ2_indexOfRange_29 (Nat.le_refl _) (Nat.le_refl _) ⟨_, rfl, hw⟩
theorem b_J2_indexOfRange_13 {G : gT} {l : Launch} {V : Hp → Nat → Nat → Nat → List (Nat × Value) → List Value → Prop} {Q : Int32 → Hp → Prop} (C : Cx G l V cJ2_indexOfRange 6 RJ2 3 53 0 0 (pI Q) none (some .int) [] false) : ∀ (k : Nat) (h : Hp) (x3 : Int32) (x4 : Option Nat) (x5 : Int32), B_J2_indexOfRange_13 Q k h x3 x4 x5 → V h 0 0 13 [(3, .int x3), (4, va_rf x4), (5, .int x5)] [] := by
  intro k
  induction k with
  | zero =>
    intro h x3 x4 x5 hw
    exact hw.elim
  | succ k ih =>
    intro h x3 x4 x5 hw
    exact s_J2_indexOfRange_13 C _ (fun h x3 x4 x5 hw => ih h x3 x4 x5 hw) h x3 x4 x5 hw
theorem s_J2_indexOfRange_42 {G : gT} {l : Launch} {V : Hp → Nat → Nat → Nat → List (Nat × Value) → List Value → Prop} {Q : Int32 → Hp → Prop} (C : Cx G l V cJ2_indexOfRange 6 RJ2 3 53 0 0 (pI Q) none (some .int) [] false) (LA42 : Hp → Nat → Int32 → (Option Nat) → Int32 → Prop) (hLA42 : ∀ (h : Hp) (x1 : Nat) (x3 : Int32) (x4 : Option Nat) (x5 : Int32), LA42 h x1 x3 x4 x5 → V h 0 0 42 [(1, .ref x1), (3, .int x3), (4, va_rf x4), (5, .int x5)] []) (h : Hp) (x1 : Nat) (x3 : Int32) (x4 : Option Nat) (x5 : Int32) (hw : S_J2_indexOfRange_42 Q LA42 h x1 x3 x4 x5) : V h 0 0 42 [(1, .ref x1), (3, .int x3), (4, va_rf x4), (5, .int x5)] [] := by
  unfold S_J2_indexOfRange_42 at hw
  refine r_iload C 3 rfl dJ2_indexOfRange_42 (r_iload_n C rfl 1 rfl dJ2_indexOfRange_44 ?_)
  refine r_icmp_ge (tgt := 69) C (by decide) dJ2_indexOfRange_45 (fun hc6 => ?_) (fun hc6 => ?_)
  · have hw := hw.1 hc6
    refine r_iconst (v := (-1 : Int32)) C (by decide) dJ2_indexOfRange_69 ?_
    exact r_ireturn C dJ2_indexOfRange_70 (Nat.le_refl _) (Nat.le_refl _) ⟨_, rfl, hw⟩
  · have hw := hw.2 hc6
    refine r_aload_n C rfl 0 rfl dJ2_indexOfRange_48 (r_aloadO C 2 rfl dJ2_indexOfRange_49 (r_iload C 3 rfl dJ2_indexOfRange_51 ?_))
    obtain ⟨y7, rfl, hw_y7⟩ := hw
    have hw := hw_y7
    refine r_aaload (t := 2) C rfl dJ2_indexOfRange_53 hw (fun v8 hw => ?_)
    obtain ⟨y9, rfl, hw_y9⟩ := hw
    have hw := hw_y9
    obtain ⟨hq10, hw⟩ := hw
    refine r_callU (ci := 12) (owner := "java/lang/Object") (rest := []) (As := [.ref y9]) C (x := ⟨"java/lang/Object", "equals", "(Ljava/lang/Object;)Z"⟩) (show ySg ⟨"java/lang/Object", "equals", "(Ljava/lang/Object;)Z"⟩ 1 = true by decide +kernel) rfl q933 q935 q948 q949 q105 q950 (by decide +kernel) rfl (Nat.le_of_ble_eq_true rfl) dJ2_indexOfRange_54 rfl hq10 (Nat.le_refl _) (Nat.le_refl _) (cj_J24_equals G l x1 y9 h _ hw) (k_Z (fun r11 h12 hw => ?_))
    refine r_if_eq_b (tgt := 63) C (by decide) dJ2_indexOfRange_57 (fun hc13 => ?_) (fun hc13 => ?_)
    · have hw := hw.1 hc13
      refine r_iinc (v := x5 + (1 : Int32)) (L' := [(5, .int (x5 + (1 : Int32))), (1, .ref x1), (3, .int x3), (4, .ref y7)]) C (u := 3) rfl (by rfl) (by decide) rfl dJ2_indexOfRange_63 (r_goto (tgt := 42) C (by decide) dJ2_indexOfRange_66 ?_)
      exact r_sub C [1, 2, 3, 0] rfl (hLA42 _ _ _ _ _ hw)
    · have hw := hw.2 hc13
      refine r_iload C 3 rfl dJ2_indexOfRange_60 ?_
      exact r_ireturn C dJ2_indexOfRange_62 (Nat.le_refl _) (Nat.le_refl _) ⟨_, rfl, hw⟩
theorem b_J2_indexOfRange_42 {G : gT} {l : Launch} {V : Hp → Nat → Nat → Nat → List (Nat × Value) → List Value → Prop} {Q : Int32 → Hp → Prop} (C : Cx G l V cJ2_indexOfRange 6 RJ2 3 53 0 0 (pI Q) none (some .int) [] false) : ∀ (k : Nat) (h : Hp) (x1 : Nat) (x3 : Int32) (x4 : Option Nat) (x5 : Int32), B_J2_indexOfRange_42 Q k h x1 x3 x4 x5 → V h 0 0 42 [(1, .ref x1), (3, .int x3), (4, va_rf x4), (5, .int x5)] [] := by
  intro k
  induction k with
  | zero =>
    intro h x1 x3 x4 x5 hw
    exact hw.elim
  | succ k ih =>
    intro h x1 x3 x4 x5 hw
    exact s_J2_indexOfRange_42 C _ (fun h x1 x3 x4 x5 hw => ih h x1 x3 x4 x5 hw) h x1 x3 x4 x5 hw
theorem sg_J2_indexOfRange : ySg yJ2_indexOfRange 3 = true := by decide +kernel
theorem c_J2_indexOfRange (G : gT) (l : Launch) (a0 : Nat) (a1 : Nat) (i2 : Int32) (i3 : Int32) (h : Hp) (Q : Int32 → Hp → Prop) (hw : w_J2_indexOfRange a0 a1 i2 i3 h Q) : Ct G l yJ2_indexOfRange (ws_ yJ2_indexOfRange cJ2_indexOfRange 6 (some .int)) 3 53 0 0 [.ref a0, .ref a1, .int i2, .int i3] h (pI Q) := by
  refine Ct.of (own := RJ2) false (by decide +kernel) rfl (show (_ : Nat) ≤ _ from Nat.le_of_ble_eq_true rfl) (fun z => by cases z) (fun V C => ?_)
  show V h 0 0 0 [(0, .ref a0), (1, .ref a1), (2, .int i2), (3, .int i3)] []
  unfold w_J2_indexOfRange at hw
  refine r_aload_n C rfl 0 rfl dJ2_indexOfRange_0 ?_
  refine r_gfR (k := 1) C kJ2 (by decide) (Or.inl q150) (Or.inl rfl) dJ2_indexOfRange_1 hw (fun v14 hw => ?_)
  refine r_astoreO (x := v14) (L' := [(4, va_rf v14), (0, .ref a0), (1, .ref a1), (2, .int i2), (3, .int i3)]) C (by decide) rfl dJ2_indexOfRange_4 (r_aload_n C rfl 2 rfl dJ2_indexOfRange_6 ?_)
  refine r_ifnonnull (x := some a1) (tgt := 39) C (by decide) dJ2_indexOfRange_7 (fun _ _ => ?_) (fun z => by cases z)
  refine r_iload_n C rfl 3 rfl dJ2_indexOfRange_39 (r_istore (L' := [(5, .int i2), (4, va_rf v14), (0, .ref a0), (1, .ref a1), (2, .int i2), (3, .int i3)]) C (by decide) (by rcases v14 with _ | _ <;> rfl) dJ2_indexOfRange_40 ?_)
  obtain ⟨k9, hw⟩ := hw
  exact r_sub C [3, 5, 1, 0] rfl (b_J2_indexOfRange_42 C _ _ _ _ _ _ hw)
def w_J2_indexOf (a0 : Nat) (a1 : Nat) (h : Hp) (Q : Int32 → Hp → Prop) : Prop :=
  gfI h a0 8 2 (fun v1 => hasC h a0 8 ∧ (w_J2_indexOfRange a0 a1 (0 : Int32) v1 h (fun r3 h4 => Q r3 h4)))
theorem sg_J2_indexOf : ySg yJ2_indexOf 1 = true := by decide +kernel
theorem c_J2_indexOf (G : gT) (l : Launch) (a0 : Nat) (a1 : Nat) (h : Hp) (Q : Int32 → Hp → Prop) (hw : w_J2_indexOf a0 a1 h Q) : Ct G l yJ2_indexOf (ws_ yJ2_indexOf cJ2_indexOf 2 (some .int)) 4 78 0 0 [.ref a0, .ref a1] h (pI Q) := by
  refine Ct.of (own := RJ2) false (by decide +kernel) rfl (show (_ : Nat) ≤ _ from Nat.le_of_ble_eq_true rfl) (fun z => by cases z) (fun V C => ?_)
  show V h 0 0 0 [(0, .ref a0), (1, .ref a1)] []
  unfold w_J2_indexOf at hw
  refine r_aload_n C rfl 0 rfl dJ2_indexOf_0 (r_aload_n C rfl 1 rfl dJ2_indexOf_1 (r_iconst (v := (0 : Int32)) C (by decide) dJ2_indexOf_2 (r_aload_n C rfl 0 rfl dJ2_indexOf_3 ?_)))
  refine r_gfI (k := 2) C kJ2 (by decide) (Or.inl q153) (Or.inl rfl) dJ2_indexOf_4 hw (fun v1 hw => ?_)
  obtain ⟨hq2, hw⟩ := hw
  refine r_callV (ci := 8) (rest := []) (As := [.ref a1, .int (0 : Int32), .int v1]) C sg_J2_indexOfRange rfl rfl q928 q929 q930 q81 q931 rfl (Nat.le_of_ble_eq_true rfl) dJ2_indexOf_7 rfl hq2 (Nat.le_refl _) (Nat.le_refl _) (c_J2_indexOfRange G l a0 a1 (0 : Int32) v1 h _ hw) (k_I (fun r3 h4 hw => ?_))
  exact r_ireturn C dJ2_indexOf_10 (Nat.le_refl _) (Nat.le_refl _) ⟨_, rfl, hw⟩
def w_J2_contains (a0 : Nat) (a1 : Nat) (h : Hp) (Q : Bool → Hp → Prop) : Prop :=
  hasC h a0 8 ∧ (w_J2_indexOf a0 a1 h (fun r2 h3 => Q (if r2 < 0 then false else true) h3))
theorem sg_J2_contains : ySg yJ2_contains 1 = true := by decide +kernel
theorem c_J2_contains (G : gT) (l : Launch) (a0 : Nat) (a1 : Nat) (h : Hp) (Q : Bool → Hp → Prop) (hw : w_J2_contains a0 a1 h Q) : Ct G l yJ2_contains (ws_ yJ2_contains cJ2_contains 2 (some .boolean)) 5 99 0 0 [.ref a0, .ref a1] h (pZ Q) := by
  refine Ct.of (own := RJ2) false (by decide +kernel) rfl (show (_ : Nat) ≤ _ from Nat.le_of_ble_eq_true rfl) (fun z => by cases z) (fun V C => ?_)
  show V h 0 0 0 [(0, .ref a0), (1, .ref a1)] []
  unfold w_J2_contains at hw
  refine r_aload_n C rfl 0 rfl dJ2_contains_0 (r_aload_n C rfl 1 rfl dJ2_contains_1 ?_)
  obtain ⟨hq1, hw⟩ := hw
  refine r_callV (ci := 8) (rest := []) (As := [.ref a1]) C sg_J2_indexOf rfl rfl q924 q925 q926 q81 q927 rfl (Nat.le_of_ble_eq_true rfl) dJ2_contains_2 rfl hq1 (Nat.le_refl _) (Nat.le_refl _) (c_J2_indexOf G l a0 a1 h _ hw) (k_I (fun r2 h3 hw => ?_))
  have hJ : V h3 0 0 13 [] [.int (bI (if r2 < 0 then false else true))] := by
    exact r_zreturn (x := (if r2 < 0 then false else true)) C dJ2_contains_13 (Nat.le_refl _) (Nat.le_refl _) ⟨_, rfl, hw⟩
  refine r_if_lt (tgt := 12) C (by decide) dJ2_contains_5 (fun hc4 => ?_) (fun hc4 => ?_)
  · have hJ5 := hJ
    try simp only [if_pos hc4] at hJ5
    refine r_iconst (v := (0 : Int32)) C (by decide) dJ2_contains_12 ?_
    exact r_sub C [] rfl hJ5
  · have hJ5 := hJ
    try simp only [if_neg hc4] at hJ5
    refine r_iconst (v := (1 : Int32)) C (by decide) dJ2_contains_8 (r_goto (tgt := 13) C (by decide) dJ2_contains_9 ?_)
    exact r_sub C [] rfl hJ5
def w_J2_elementData (a0 : Nat) (i1 : Int32) (h : Hp) (Q : Option Nat → Hp → Prop) : Prop :=
  gfR h a0 8 1 (fun v1 => nn v1 (fun y2 => rdR 2 h y2 i1 (fun v3 => Q v3 h)))
theorem sg_J2_elementData : ySg yJ2_elementData 1 = true := by decide +kernel
theorem c_J2_elementData (G : gT) (l : Launch) (a0 : Nat) (i1 : Int32) (h : Hp) (Q : Option Nat → Hp → Prop) (hw : w_J2_elementData a0 i1 h Q) : Ct G l yJ2_elementData (ws_ yJ2_elementData cJ2_elementData 2 (some (.object "java/lang/Object"))) 1 12 0 0 [.ref a0, .int i1] h (pR Q) := by
  refine Ct.of (own := RJ2) false (by decide +kernel) rfl (show (_ : Nat) ≤ _ from Nat.le_of_ble_eq_true rfl) (fun z => by cases z) (fun V C => ?_)
  show V h 0 0 0 [(0, .ref a0), (1, .int i1)] []
  unfold w_J2_elementData at hw
  refine r_aload_n C rfl 0 rfl dJ2_elementData_0 ?_
  refine r_gfR (k := 1) C kJ2 (by decide) (Or.inl q150) (Or.inl rfl) dJ2_elementData_1 hw (fun v1 hw => ?_)
  refine r_iload_n C rfl 1 rfl dJ2_elementData_4 ?_
  obtain ⟨y2, rfl, hw_y2⟩ := hw
  have hw := hw_y2
  refine r_aaload (t := 2) C rfl dJ2_elementData_5 hw (fun v3 hw => ?_)
  exact r_areturn (x := v3) C (by first | exact Or.inl ⟨_, rfl⟩ | exact Or.inr ⟨_, rfl⟩) dJ2_elementData_6 (Nat.le_refl _) (Nat.le_refl _) ⟨_, rfl, hw⟩
def B_J16_checkIndex_9 (Q : Int32 → Hp → Prop) (h : Hp) (x0 : Int32) (x1 : Int32) (x2 : Option Nat) : Prop :=
  False
def w_J16_checkIndex (i0 : Int32) (i1 : Int32) (o2 : Option Nat) (h : Hp) (Q : Int32 → Hp → Prop) : Prop :=
  (i0 < 0 → B_J16_checkIndex_9 Q h i0 i1 o2) ∧ (¬ i0 < 0 → (i0 < i1 → Q i0 h) ∧ (¬ i0 < i1 → B_J16_checkIndex_9 Q h i0 i1 o2))
theorem b_J16_checkIndex_9 {G : gT} {l : Launch} {V : Hp → Nat → Nat → Nat → List (Nat × Value) → List Value → Prop} {Q : Int32 → Hp → Prop} (C : Cx G l V cJ16_checkIndex 3 RJ16 1 12 0 0 (pI Q) none (some .int) [] false) (h : Hp) (x0 : Int32) (x1 : Int32) (x2 : Option Nat) (hw : B_J16_checkIndex_9 Q h x0 x1 x2) : V h 0 0 9 [(0, .int x0), (1, .int x1), (2, va_rf x2)] [] := by
  unfold B_J16_checkIndex_9 at hw
  refine r_aload_nO C rfl 2 rfl dJ16_checkIndex_9 (r_iload_n C rfl 0 rfl dJ16_checkIndex_10 (r_iload_n C rfl 1 rfl dJ16_checkIndex_11 ?_))
  exact hw.elim
theorem sg_J16_checkIndex : ySg yJ16_checkIndex 3 = true := by decide +kernel
theorem c_J16_checkIndex (G : gT) (l : Launch) (i0 : Int32) (i1 : Int32) (o2 : Option Nat) (h : Hp) (Q : Int32 → Hp → Prop) (hw : w_J16_checkIndex i0 i1 o2 h Q) : Ct G l yJ16_checkIndex (ws_ yJ16_checkIndex cJ16_checkIndex 3 (some .int)) 1 12 0 0 [.int i0, .int i1, va_rf o2] h (pI Q) := by
  refine Ct.of (own := RJ16) false (by decide +kernel) rfl (by rcases o2 with _ | _ <;> exact (show (_ : Nat) ≤ _ from Nat.le_of_ble_eq_true rfl)) (fun z => by cases z) (fun V C => ?_)
  rw [show lv_args 0 [.int i0, .int i1, va_rf o2] = [(0, .int i0), (1, .int i1), (2, va_rf o2)] from by rcases o2 with _ | _ <;> rfl]
  unfold w_J16_checkIndex at hw
  refine r_iload_n C rfl 0 rfl dJ16_checkIndex_0 ?_
  refine r_if_lt (tgt := 9) C (by decide) dJ16_checkIndex_1 (fun hc1 => ?_) (fun hc1 => ?_)
  · have hw := hw.1 hc1
    exact r_sub C [0, 1, 2] rfl (b_J16_checkIndex_9 C _ _ _ _ hw)
  · have hw := hw.2 hc1
    refine r_iload_n C rfl 0 rfl dJ16_checkIndex_4 (r_iload_n C rfl 1 rfl dJ16_checkIndex_5 ?_)
    refine r_icmp_lt (tgt := 16) C (by decide) dJ16_checkIndex_6 (fun hc2 => ?_) (fun hc2 => ?_)
    · have hw := hw.1 hc2
      refine r_iload_n C rfl 0 rfl dJ16_checkIndex_16 ?_
      exact r_ireturn C dJ16_checkIndex_17 (Nat.le_refl _) (Nat.le_refl _) ⟨_, rfl, hw⟩
    · have hw := hw.2 hc2
      exact r_sub C [0, 1, 2] rfl (b_J16_checkIndex_9 C _ _ _ _ hw)
def w_J15_checkIndex (i0 : Int32) (i1 : Int32) (h : Hp) (Q : Int32 → Hp → Prop) : Prop :=
  w_J16_checkIndex i0 i1 none h (fun r1 h2 => Q r1 h2)
theorem sg_J15_checkIndex : ySg yJ15_checkIndex 2 = true := by decide +kernel
theorem c_J15_checkIndex (G : gT) (l : Launch) (i0 : Int32) (i1 : Int32) (h : Hp) (Q : Int32 → Hp → Prop) (hw : w_J15_checkIndex i0 i1 h Q) : Ct G l yJ15_checkIndex (ws_ yJ15_checkIndex cJ15_checkIndex 2 (some .int)) 2 34 0 0 [.int i0, .int i1] h (pI Q) := by
  refine Ct.of (own := RJ15) false (by decide +kernel) rfl (show (_ : Nat) ≤ _ from Nat.le_of_ble_eq_true rfl) (fun z => by cases z) (fun V C => ?_)
  show V h 0 0 0 [(0, .int i0), (1, .int i1)] []
  unfold w_J15_checkIndex at hw
  refine r_iload_n C rfl 0 rfl dJ15_checkIndex_0 (r_iload_n C rfl 1 rfl dJ15_checkIndex_1 (r_null C dJ15_checkIndex_2 ?_))
  refine r_callS (rest := []) (As := [.int i0, .int i1, va_rf none]) C sg_J16_checkIndex q461 q462 q97 q463 rfl (Nat.le_of_ble_eq_true rfl) dJ15_checkIndex_3 rfl (Nat.le_refl _) (Nat.le_refl _) (c_J16_checkIndex G l i0 i1 none h _ hw) (k_I (fun r1 h2 hw => ?_))
  exact r_ireturn C dJ15_checkIndex_6 (Nat.le_refl _) (Nat.le_refl _) ⟨_, rfl, hw⟩
def w_J2_get (a0 : Nat) (i1 : Int32) (h : Hp) (Q : Option Nat → Hp → Prop) : Prop :=
  gfI h a0 8 2 (fun v1 => w_J15_checkIndex i1 v1 h (fun r2 h3 => hasC h3 a0 8 ∧ (w_J2_elementData a0 i1 h3 (fun r5 h6 => Q r5 h6))))
theorem sg_J2_get : ySg yJ2_get 1 = true := by decide +kernel
theorem c_J2_get (G : gT) (l : Launch) (a0 : Nat) (i1 : Int32) (h : Hp) (Q : Option Nat → Hp → Prop) (hw : w_J2_get a0 i1 h Q) : Ct G l yJ2_get (ws_ yJ2_get cJ2_get 2 (some (.object "java/lang/Object"))) 3 55 0 0 [.ref a0, .int i1] h (pR Q) := by
  refine Ct.of (own := RJ2) false (by decide +kernel) rfl (show (_ : Nat) ≤ _ from Nat.le_of_ble_eq_true rfl) (fun z => by cases z) (fun V C => ?_)
  show V h 0 0 0 [(0, .ref a0), (1, .int i1)] []
  unfold w_J2_get at hw
  refine r_iload_n C rfl 1 rfl dJ2_get_0 (r_aload_n C rfl 0 rfl dJ2_get_1 ?_)
  refine r_gfI (k := 2) C kJ2 (by decide) (Or.inl q153) (Or.inl rfl) dJ2_get_2 hw (fun v1 hw => ?_)
  refine r_callS (rest := []) (As := [.int i1, .int v1]) C sg_J15_checkIndex q458 q459 q96 q460 rfl (Nat.le_of_ble_eq_true rfl) dJ2_get_5 rfl (Nat.le_refl _) (Nat.le_refl _) (c_J15_checkIndex G l i1 v1 h _ hw) (k_I (fun r2 h3 hw => ?_))
  refine r_pop C rfl dJ2_get_8 (r_aload_n C rfl 0 rfl dJ2_get_9 (r_iload_n C rfl 1 rfl dJ2_get_10 ?_))
  obtain ⟨hq4, hw⟩ := hw
  refine r_callV (ci := 8) (rest := []) (As := [.int i1]) C sg_J2_elementData rfl rfl q464 q465 q466 q81 q467 rfl (Nat.le_of_ble_eq_true rfl) dJ2_get_11 rfl hq4 (Nat.le_refl _) (Nat.le_refl _) (c_J2_elementData G l a0 i1 h3 _ hw) (k_R (fun r5 h6 hw => ?_))
  exact r_areturn (x := r5) C (by first | exact Or.inl ⟨_, rfl⟩ | exact Or.inr ⟨_, rfl⟩) dJ2_get_14 (Nat.le_refl _) (Nat.le_refl _) ⟨_, rfl, hw⟩
def w_J2_isEmpty (a0 : Nat) (h : Hp) (Q : Bool → Hp → Prop) : Prop :=
  gfI h a0 8 2 (fun v1 => Q (if ¬ v1 = 0 then false else true) h)
theorem sg_J2_isEmpty : ySg yJ2_isEmpty 0 = true := by decide +kernel
theorem c_J2_isEmpty (G : gT) (l : Launch) (a0 : Nat) (h : Hp) (Q : Bool → Hp → Prop) (hw : w_J2_isEmpty a0 h Q) : Ct G l yJ2_isEmpty (ws_ yJ2_isEmpty cJ2_isEmpty 1 (some .boolean)) 1 12 0 0 [.ref a0] h (pZ Q) := by
  refine Ct.of (own := RJ2) false (by decide +kernel) rfl (show (_ : Nat) ≤ _ from Nat.le_of_ble_eq_true rfl) (fun z => by cases z) (fun V C => ?_)
  show V h 0 0 0 [(0, .ref a0)] []
  unfold w_J2_isEmpty at hw
  refine r_aload_n C rfl 0 rfl dJ2_isEmpty_0 ?_
  refine r_gfI (k := 2) C kJ2 (by decide) (Or.inl q153) (Or.inl rfl) dJ2_isEmpty_1 hw (fun v1 hw => ?_)
  have hJ : V h 0 0 12 [] [.int (bI (if ¬ v1 = 0 then false else true))] := by
    exact r_zreturn (x := (if ¬ v1 = 0 then false else true)) C dJ2_isEmpty_12 (Nat.le_refl _) (Nat.le_refl _) ⟨_, rfl, hw⟩
  refine r_if_ne (tgt := 11) C (by decide) dJ2_isEmpty_4 (fun hc2 => ?_) (fun hc2 => ?_)
  · have hJ3 := hJ
    try simp only [if_pos hc2] at hJ3
    refine r_iconst (v := (0 : Int32)) C (by decide) dJ2_isEmpty_11 ?_
    exact r_sub C [] rfl hJ3
  · have hJ3 := hJ
    try simp only [if_neg (show ¬ ¬ v1 = 0 from fun z => z hc2)] at hJ3
    refine r_iconst (v := (1 : Int32)) C (by decide) dJ2_isEmpty_7 (r_goto (tgt := 12) C (by decide) dJ2_isEmpty_8 ?_)
    exact r_sub C [] rfl hJ3
def w_J2_iterator (mc ms : Nat) (a0 : Nat) (h : Hp) (Q : Option Nat → Hp → Prop) : Prop :=
  0 + 1 ≤ mc ∧ 0 + 4 ≤ ms ∧ (nwO h 13 [.int 0, .int 0, .int 0, .null] (fun q3 h4 => w_J25_init q3 a0 h4 (fun h6 => Q (some q3) h6)))
theorem sg_J2_iterator : ySg yJ2_iterator 0 = true := by decide +kernel
theorem c_J2_iterator (G : gT) (l : Launch) (mc ms : Nat) (a0 : Nat) (h : Hp) (Q : Option Nat → Hp → Prop) (hw : w_J2_iterator mc ms a0 h Q) : Ct G l yJ2_iterator (ws_ yJ2_iterator cJ2_iterator 1 (some (.object "java/util/Iterator"))) 2 33 mc ms [.ref a0] h (pR Q) := by
  refine Ct.of (own := RJ2) false (by decide +kernel) rfl (show (_ : Nat) ≤ _ from Nat.le_of_ble_eq_true rfl) (fun z => by cases z) (fun V C => ?_)
  show V h 0 0 0 [(0, .ref a0)] []
  unfold w_J2_iterator at hw
  obtain ⟨hp1, hp2, hw⟩ := hw
  refine r_new C kJ25 q1056 q1057 q110 df_13 dJ2_iterator_0 hp1 hp2 hw (fun q3 h4 hw => ?_)
  refine r_dup C rfl dJ2_iterator_3 (r_aload_n C rfl 0 rfl dJ2_iterator_4 ?_)
  refine r_callI (rest := [.ref q3]) (As := [.ref a0]) C sg_J25_init rfl q1058 q1059 q110 q1060 rfl (Nat.le_of_ble_eq_true rfl) dJ2_iterator_5 rfl hp1 hp2 (c_J25_init G l q3 a0 h4 _ hw) (k_V (fun h6 hw => ?_))
  exact r_areturn (x := some q3) C (by first | exact Or.inl ⟨_, rfl⟩ | exact Or.inr ⟨_, rfl⟩) dJ2_iterator_8 hp1 hp2 ⟨_, rfl, hw⟩
def w_J2_set (a0 : Nat) (i1 : Int32) (a2 : Nat) (h : Hp) (Q : Option Nat → Hp → Prop) : Prop :=
  gfI h a0 8 2 (fun v1 => w_J15_checkIndex i1 v1 h (fun r2 h3 => hasC h3 a0 8 ∧ (w_J2_elementData a0 i1 h3 (fun r5 h6 => gfR h6 a0 8 1 (fun v7 => nn v7 (fun y9 => wrR 2 h6 y9 i1 (some a2) (fun h8 => Q r5 h8)))))))
theorem sg_J2_set : ySg yJ2_set 2 = true := by decide +kernel
theorem c_J2_set (G : gT) (l : Launch) (a0 : Nat) (i1 : Int32) (a2 : Nat) (h : Hp) (Q : Option Nat → Hp → Prop) (hw : w_J2_set a0 i1 a2 h Q) : Ct G l yJ2_set (ws_ yJ2_set cJ2_set 4 (some (.object "java/lang/Object"))) 3 55 0 0 [.ref a0, .int i1, .ref a2] h (pR Q) := by
  refine Ct.of (own := RJ2) false (by decide +kernel) rfl (show (_ : Nat) ≤ _ from Nat.le_of_ble_eq_true rfl) (fun z => by cases z) (fun V C => ?_)
  show V h 0 0 0 [(0, .ref a0), (1, .int i1), (2, .ref a2)] []
  unfold w_J2_set at hw
  refine r_iload_n C rfl 1 rfl dJ2_set_0 (r_aload_n C rfl 0 rfl dJ2_set_1 ?_)
  refine r_gfI (k := 2) C kJ2 (by decide) (Or.inl q153) (Or.inl rfl) dJ2_set_2 hw (fun v1 hw => ?_)
  refine r_callS (rest := []) (As := [.int i1, .int v1]) C sg_J15_checkIndex q458 q459 q96 q460 rfl (Nat.le_of_ble_eq_true rfl) dJ2_set_5 rfl (Nat.le_refl _) (Nat.le_refl _) (c_J15_checkIndex G l i1 v1 h _ hw) (k_I (fun r2 h3 hw => ?_))
  refine r_pop C rfl dJ2_set_8 (r_aload_n C rfl 0 rfl dJ2_set_9 (r_iload_n C rfl 1 rfl dJ2_set_10 ?_))
  obtain ⟨hq4, hw⟩ := hw
  refine r_callV (ci := 8) (rest := []) (As := [.int i1]) C sg_J2_elementData rfl rfl q464 q465 q466 q81 q467 rfl (Nat.le_of_ble_eq_true rfl) dJ2_set_11 rfl hq4 (Nat.le_refl _) (Nat.le_refl _) (c_J2_elementData G l a0 i1 h3 _ hw) (k_R (fun r5 h6 hw => ?_))
  refine r_astore_nO (x := r5) (L' := [(3, va_rf r5), (0, .ref a0), (1, .int i1), (2, .ref a2)]) C rfl (by decide) rfl dJ2_set_14 (r_aload_n C rfl 1 rfl dJ2_set_15 ?_)
  refine r_gfR (k := 1) C kJ2 (by decide) (Or.inl q150) (Or.inl rfl) dJ2_set_16 hw (fun v7 hw => ?_)
  refine r_iload_n C rfl 2 rfl dJ2_set_19 (r_aload_n C rfl 3 rfl dJ2_set_20 ?_)
  obtain ⟨y9, rfl, hw_y9⟩ := hw
  have hw := hw_y9
  refine r_aastore (t := 2) (x := some a2) C (by decide) rfl dJ2_set_21 hw (fun h8 hw => ?_)
  refine r_aload_nO C rfl 0 rfl dJ2_set_22 ?_
  exact r_areturn (x := r5) C (by first | exact Or.inl ⟨_, rfl⟩ | exact Or.inr ⟨_, rfl⟩) dJ2_set_23 (Nat.le_refl _) (Nat.le_refl _) ⟨_, rfl, hw⟩
def w_J2_size (a0 : Nat) (h : Hp) (Q : Int32 → Hp → Prop) : Prop :=
  gfI h a0 8 2 (fun v1 => Q v1 h)
theorem sg_J2_size : ySg yJ2_size 0 = true := by decide +kernel
theorem c_J2_size (G : gT) (l : Launch) (a0 : Nat) (h : Hp) (Q : Int32 → Hp → Prop) (hw : w_J2_size a0 h Q) : Ct G l yJ2_size (ws_ yJ2_size cJ2_size 1 (some .int)) 1 12 0 0 [.ref a0] h (pI Q) := by
  refine Ct.of (own := RJ2) false (by decide +kernel) rfl (show (_ : Nat) ≤ _ from Nat.le_of_ble_eq_true rfl) (fun z => by cases z) (fun V C => ?_)
  show V h 0 0 0 [(0, .ref a0)] []
  unfold w_J2_size at hw
  refine r_aload_n C rfl 0 rfl dJ2_size_0 ?_
  refine r_gfI (k := 2) C kJ2 (by decide) (Or.inl q153) (Or.inl rfl) dJ2_size_1 hw (fun v1 hw => ?_)
  exact r_ireturn C dJ2_size_4 (Nat.le_refl _) (Nat.le_refl _) ⟨_, rfl, hw⟩
def w_J30_wordIndex (i0 : Int32) (h : Hp) (Q : Int32 → Hp → Prop) : Prop :=
  Q (i0 >>> ((6 : Int32) &&& 31)) h
theorem sg_J30_wordIndex : ySg yJ30_wordIndex 1 = true := by decide +kernel
theorem c_J30_wordIndex (G : gT) (l : Launch) (i0 : Int32) (h : Hp) (Q : Int32 → Hp → Prop) (hw : w_J30_wordIndex i0 h Q) : Ct G l yJ30_wordIndex (ws_ yJ30_wordIndex cJ30_wordIndex 1 (some .int)) 1 12 0 0 [.int i0] h (pI Q) := by
  refine Ct.of (own := RJ30) false (by decide +kernel) rfl (show (_ : Nat) ≤ _ from Nat.le_of_ble_eq_true rfl) (fun z => by cases z) (fun V C => ?_)
  show V h 0 0 0 [(0, .int i0)] []
  unfold w_J30_wordIndex at hw
  refine r_iload_n C rfl 0 rfl dJ30_wordIndex_0 (r_bipush (v := (6 : Int32)) C (by decide) dJ30_wordIndex_1 (r_ishr C dJ30_wordIndex_3 ?_))
  exact r_ireturn C dJ30_wordIndex_4 (Nat.le_refl _) (Nat.le_refl _) ⟨_, rfl, hw⟩
def w_J30_initWords (mc ms : Nat) (a0 : Nat) (i1 : Int32) (h : Hp) (Q : Hp → Prop) : Prop :=
  w_J30_wordIndex (i1 - (1 : Int32)) h (fun r1 h2 => ¬ (r1 + (1 : Int32)) < 0 ∧ (r1 + (1 : Int32)).toNatClampNeg ≤ 60000 ∧ (0 + 1 ≤ mc ∧ 0 + (r1 + (1 : Int32)).toNatClampNeg ≤ ms ∧ (nwA h2 1 ((r1 + (1 : Int32)).toNatClampNeg, .inr (.inl (fun _ => 0))) (fun q7 h8 => pf h8 a0 15 0 (.ref q7) (fun h9 => Q h9)))))
theorem sg_J30_initWords : ySg yJ30_initWords 1 = true := by decide +kernel
theorem c_J30_initWords (G : gT) (l : Launch) (mc ms : Nat) (a0 : Nat) (i1 : Int32) (h : Hp) (Q : Hp → Prop) (hw : w_J30_initWords mc ms a0 i1 h Q) : Ct G l yJ30_initWords (ws_ yJ30_initWords cJ30_initWords 2 (none)) 2 32 mc ms [.ref a0, .int i1] h (pV Q) := by
  refine Ct.of (own := RJ30) false (by decide +kernel) rfl (show (_ : Nat) ≤ _ from Nat.le_of_ble_eq_true rfl) (fun z => by cases z) (fun V C => ?_)
  show V h 0 0 0 [(0, .ref a0), (1, .int i1)] []
  unfold w_J30_initWords at hw
  refine r_aload_n C rfl 0 rfl dJ30_initWords_0 (r_iload_n C rfl 1 rfl dJ30_initWords_1 (r_iconst (v := (1 : Int32)) C (by decide) dJ30_initWords_2 (r_isub C dJ30_initWords_3 ?_)))
  refine r_callS (rest := [.ref a0]) (As := [.int (i1 - (1 : Int32))]) C sg_J30_wordIndex q1401 q1402 q116 q1403 rfl (Nat.le_of_ble_eq_true rfl) dJ30_initWords_4 rfl (Nat.zero_le _) (Nat.zero_le _) (c_J30_wordIndex G l (i1 - (1 : Int32)) h _ hw) (k_I (fun r1 h2 hw => ?_))
  refine r_iconst (v := (1 : Int32)) C (by decide) dJ30_initWords_7 (r_iadd C dJ30_initWords_8 ?_)
  obtain ⟨hz3, hz4, hw⟩ := hw
  obtain ⟨hp5, hp6, hw⟩ := hw
  refine r_newa (atype := .long) (N := (r1 + (1 : Int32)).toNatClampNeg) (t := 1) C q1415 (by decide) rfl (fun _ z => by cases z) (fun cA => rfl) hz3 rfl hz4 dJ30_initWords_9 hp5 hp6 hw (fun q7 h8 hw => ?_)
  refine r_pf (k := 0) (v := .ref q7) C kJ30 (by decide) (Or.inl q1404) (Or.inl rfl) (Or.inl rfl) rfl rfl dJ30_initWords_11 hw (fun h9 hw => ?_)
  exact r_return C dJ30_initWords_14 hp5 hp6 ⟨rfl, hw⟩
def w_J30_init (mc ms : Nat) (a0 : Nat) (i1 : Int32) (h : Hp) (Q : Hp → Prop) : Prop :=
  pf h a0 15 1 (.int (0 : Int32)) (fun h1 => pf h1 a0 15 2 (.int (bI false)) (fun h2 => (0 ≤ i1 → hasC h2 a0 15 ∧ (∃ k7 k8 : Nat, 0 + k7 ≤ mc ∧ 0 + k8 ≤ ms ∧ (w_J30_initWords k7 k8 a0 i1 h2 (fun h6 => pf h6 a0 15 2 (.int (bI true)) (fun h11 => Q h11))))) ∧ (¬ 0 ≤ i1 → False)))
theorem sg_J30_init : ySg yJ30_init 1 = true := by decide +kernel
theorem c_J30_init (G : gT) (l : Launch) (mc ms : Nat) (a0 : Nat) (i1 : Int32) (h : Hp) (Q : Hp → Prop) (hw : w_J30_init mc ms a0 i1 h Q) : Ct G l yJ30_init (ws_ yJ30_init cJ30_init 2 (none)) 3 53 mc ms [.ref a0, .int i1] h (pV Q) := by
  refine Ct.of (own := RJ30) true (by decide +kernel) rfl (show (_ : Nat) ≤ _ from Nat.le_of_ble_eq_true rfl) (fun _ => rfl) (fun V C => ?_)
  show V h 0 0 0 [(0, .ref a0), (1, .int i1)] []
  unfold w_J30_init at hw
  refine r_aload_n C rfl 0 rfl dJ30_init_0 ?_
  refine r_objInit C q1396 q128 q129 (by decide) (by decide) dJ30_init_1 ?_
  refine r_aload_n C rfl 0 rfl dJ30_init_4 (r_iconst (v := (0 : Int32)) C (by decide) dJ30_init_5 ?_)
  refine r_pf (k := 1) (v := .int (0 : Int32)) C kJ30 (by decide) (Or.inl q1405) (Or.inl rfl) (Or.inl rfl) rfl rfl dJ30_init_6 hw (fun h1 hw => ?_)
  refine r_aload_n C rfl 0 rfl dJ30_init_9 (r_iconst (v := (0 : Int32)) C (by decide) dJ30_init_10 ?_)
  refine r_pf (k := 2) (v := .int (bI false)) C kJ30 (by decide) (Or.inl q1406) (Or.inl rfl) (Or.inl rfl) (n_bI _) (f_bI _) dJ30_init_11 hw (fun h2 hw => ?_)
  refine r_iload_n C rfl 1 rfl dJ30_init_14 ?_
  refine r_if_ge (tgt := 45) C (by decide) dJ30_init_15 (fun hc3 => ?_) (fun hc3 => ?_)
  · have hw := hw.1 hc3
    refine r_aload_n C rfl 0 rfl dJ30_init_45 (r_iload_n C rfl 1 rfl dJ30_init_46 ?_)
    obtain ⟨hq4, hw⟩ := hw
    obtain ⟨k7, k8, hp9, hp10, hw⟩ := hw
    refine r_callV (ci := 15) (rest := []) (As := [.int i1]) C sg_J30_initWords rfl rfl q1397 q1399 qs23 q116 q1400 rfl (Nat.le_of_ble_eq_true rfl) dJ30_init_47 rfl hq4 hp9 hp10 (c_J30_initWords G l k7 k8 a0 i1 h2 _ hw) (k_V (fun h6 hw => ?_))
    refine r_aload_n C rfl 0 rfl dJ30_init_50 (r_iconst (v := (1 : Int32)) C (by decide) dJ30_init_51 ?_)
    refine r_pf (k := 2) (v := .int (bI true)) C kJ30 (by decide) (Or.inl q1406) (Or.inl rfl) (Or.inl rfl) (n_bI _) (f_bI _) dJ30_init_52 hw (fun h11 hw => ?_)
    exact r_return C dJ30_init_55 hp9 hp10 ⟨rfl, hw⟩
  · have hw := hw.2 hc3
    exact hw.elim
def B_J30_recalculateWordsInUse_31 (Q : Hp → Prop) (h : Hp) (x0 : Nat) (x1 : Int32) : Prop :=
  pf h x0 15 1 (.int (x1 + (1 : Int32))) (fun h6 => Q h6)
def S_J30_recalculateWordsInUse_7 (Q : Hp → Prop) (LA7 : Hp → Nat → Int32 → Prop) (h : Hp) (x0 : Nat) (x1 : Int32) : Prop :=
  (x1 < 0 → B_J30_recalculateWordsInUse_31 Q h x0 x1) ∧ (¬ x1 < 0 → gfR h x0 15 0 (fun v2 => nn v2 (fun y3 => rdL h y3 x1 (fun v4 => ((lg_cmp v4 (0 : Int64)) = 0 → LA7 h x0 (x1 + (-1 : Int32))) ∧ (¬ (lg_cmp v4 (0 : Int64)) = 0 → B_J30_recalculateWordsInUse_31 Q h x0 x1)))))
def B_J30_recalculateWordsInUse_7 (Q : Hp → Prop) : Nat → Hp → Nat → Int32 → Prop
  | 0, _, _, _ => False
  | k + 1, h, x0, x1 => S_J30_recalculateWordsInUse_7 Q (B_J30_recalculateWordsInUse_7 Q k) h x0 x1
def w_J30_recalculateWordsInUse (a0 : Nat) (h : Hp) (Q : Hp → Prop) : Prop :=
  gfI h a0 15 1 (fun v7 => ∃ k9 : Nat, B_J30_recalculateWordsInUse_7 Q k9 h a0 (v7 - (1 : Int32)))
theorem b_J30_recalculateWordsInUse_31 {G : gT} {l : Launch} {V : Hp → Nat → Nat → Nat → List (Nat × Value) → List Value → Prop} {Q : Hp → Prop} (C : Cx G l V cJ30_recalculateWordsInUse 2 RJ30 1 12 0 0 (pV Q) none (none) [] false) (h : Hp) (x0 : Nat) (x1 : Int32) (hw : B_J30_recalculateWordsInUse_31 Q h x0 x1) : V h 0 0 31 [(0, .ref x0), (1, .int x1)] [] := by
  unfold B_J30_recalculateWordsInUse_31 at hw
  refine r_aload_n C rfl 0 rfl dJ30_recalculateWordsInUse_31 (r_iload_n C rfl 1 rfl dJ30_recalculateWordsInUse_32 (r_iconst (v := (1 : Int32)) C (by decide) dJ30_recalculateWordsInUse_33 (r_iadd C dJ30_recalculateWordsInUse_34 ?_)))
  refine r_pf (k := 1) (v := .int (x1 + (1 : Int32))) C kJ30 (by decide) (Or.inl q1405) (Or.inl rfl) (Or.inl rfl) rfl rfl dJ30_recalculateWordsInUse_35 hw (fun h6 hw => ?_)
  exact r_return C dJ30_recalculateWordsInUse_38 (Nat.le_refl _) (Nat.le_refl _) ⟨rfl, hw⟩
theorem s_J30_recalculateWordsInUse_7 {G : gT} {l : Launch} {V : Hp → Nat → Nat → Nat → List (Nat × Value) → List Value → Prop} {Q : Hp → Prop} (C : Cx G l V cJ30_recalculateWordsInUse 2 RJ30 1 12 0 0 (pV Q) none (none) [] false) (LA7 : Hp → Nat → Int32 → Prop) (hLA7 : ∀ (h : Hp) (x0 : Nat) (x1 : Int32), LA7 h x0 x1 → V h 0 0 7 [(0, .ref x0), (1, .int x1)] []) (h : Hp) (x0 : Nat) (x1 : Int32) (hw : S_J30_recalculateWordsInUse_7 Q LA7 h x0 x1) : V h 0 0 7 [(0, .ref x0), (1, .int x1)] [] := by
  unfold S_J30_recalculateWordsInUse_7 at hw
  refine r_iload_n C rfl 1 rfl dJ30_recalculateWordsInUse_7 ?_
  refine r_if_lt (tgt := 31) C (by decide) dJ30_recalculateWordsInUse_8 (fun hc1 => ?_) (fun hc1 => ?_)
  · have hw := hw.1 hc1
    exact r_sub C [0, 1] rfl (b_J30_recalculateWordsInUse_31 C _ _ _ hw)
  · have hw := hw.2 hc1
    refine r_aload_n C rfl 0 rfl dJ30_recalculateWordsInUse_11 ?_
    refine r_gfR (k := 0) C kJ30 (by decide) (Or.inl q1404) (Or.inl rfl) dJ30_recalculateWordsInUse_12 hw (fun v2 hw => ?_)
    refine r_iload_n C rfl 1 rfl dJ30_recalculateWordsInUse_15 ?_
    obtain ⟨y3, rfl, hw_y3⟩ := hw
    have hw := hw_y3
    refine r_laload C dJ30_recalculateWordsInUse_16 hw (fun v4 hw => ?_)
    refine r_lconst (v := (0 : Int64)) C (by decide) dJ30_recalculateWordsInUse_17 (r_lcmp C dJ30_recalculateWordsInUse_18 ?_)
    refine r_if_eq (tgt := 25) C (by decide) dJ30_recalculateWordsInUse_19 (fun hc5 => ?_) (fun hc5 => ?_)
    · have hw := hw.1 hc5
      refine r_iinc (v := x1 + (-1 : Int32)) (L' := [(1, .int (x1 + (-1 : Int32))), (0, .ref x0)]) C (u := 1) rfl (by rfl) (by decide) rfl dJ30_recalculateWordsInUse_25 (r_goto (tgt := 7) C (by decide) dJ30_recalculateWordsInUse_28 ?_)
      exact r_sub C [1, 0] rfl (hLA7 _ _ _ hw)
    · have hw := hw.2 hc5
      refine r_goto (tgt := 31) C (by decide) dJ30_recalculateWordsInUse_22 ?_
      exact r_sub C [0, 1] rfl (b_J30_recalculateWordsInUse_31 C _ _ _ hw)
theorem b_J30_recalculateWordsInUse_7 {G : gT} {l : Launch} {V : Hp → Nat → Nat → Nat → List (Nat × Value) → List Value → Prop} {Q : Hp → Prop} (C : Cx G l V cJ30_recalculateWordsInUse 2 RJ30 1 12 0 0 (pV Q) none (none) [] false) : ∀ (k : Nat) (h : Hp) (x0 : Nat) (x1 : Int32), B_J30_recalculateWordsInUse_7 Q k h x0 x1 → V h 0 0 7 [(0, .ref x0), (1, .int x1)] [] := by
  intro k
  induction k with
  | zero =>
    intro h x0 x1 hw
    exact hw.elim
  | succ k ih =>
    intro h x0 x1 hw
    exact s_J30_recalculateWordsInUse_7 C _ (fun h x0 x1 hw => ih h x0 x1 hw) h x0 x1 hw
theorem sg_J30_recalculateWordsInUse : ySg yJ30_recalculateWordsInUse 0 = true := by decide +kernel
theorem c_J30_recalculateWordsInUse (G : gT) (l : Launch) (a0 : Nat) (h : Hp) (Q : Hp → Prop) (hw : w_J30_recalculateWordsInUse a0 h Q) : Ct G l yJ30_recalculateWordsInUse (ws_ yJ30_recalculateWordsInUse cJ30_recalculateWordsInUse 2 (none)) 1 12 0 0 [.ref a0] h (pV Q) := by
  refine Ct.of (own := RJ30) false (by decide +kernel) rfl (show (_ : Nat) ≤ _ from Nat.le_of_ble_eq_true rfl) (fun z => by cases z) (fun V C => ?_)
  show V h 0 0 0 [(0, .ref a0)] []
  unfold w_J30_recalculateWordsInUse at hw
  refine r_aload_n C rfl 0 rfl dJ30_recalculateWordsInUse_0 ?_
  refine r_gfI (k := 1) C kJ30 (by decide) (Or.inl q1405) (Or.inl rfl) dJ30_recalculateWordsInUse_1 hw (fun v7 hw => ?_)
  refine r_iconst (v := (1 : Int32)) C (by decide) dJ30_recalculateWordsInUse_4 (r_isub C dJ30_recalculateWordsInUse_5 (r_istore_n (L' := [(1, .int (v7 - (1 : Int32))), (0, .ref a0)]) C rfl (by decide) rfl dJ30_recalculateWordsInUse_6 ?_))
  obtain ⟨k9, hw⟩ := hw
  exact r_sub C [1, 0] rfl (b_J30_recalculateWordsInUse_7 C _ _ _ _ hw)
def B_J30_checkInvariants_70 (Q : Hp → Prop) (h : Hp) (x0 : Nat) : Prop :=
  Q h
def B_J30_checkInvariants_37 (Q : Hp → Prop) (h : Hp) (x0 : Nat) : Prop :=
  B_J30_checkInvariants_70 Q h x0
def B_J30_checkInvariants_62 (Q : Hp → Prop) (h : Hp) : Prop :=
  False
def w_J30_checkInvariants (a0 : Nat) (h : Hp) (Q : Hp → Prop) : Prop :=
  B_J30_checkInvariants_37 Q h a0
theorem b_J30_checkInvariants_70 {G : gT} {l : Launch} {V : Hp → Nat → Nat → Nat → List (Nat × Value) → List Value → Prop} {Q : Hp → Prop} (C : Cx G l V cJ30_checkInvariants 1 RJ30 1 12 0 0 (pV Q) none (none) [] false) (h : Hp) (x0 : Nat) (hw : B_J30_checkInvariants_70 Q h x0) : V h 0 0 70 [(0, .ref x0)] [] := by
  unfold B_J30_checkInvariants_70 at hw
  refine r_getAss C q1508 dJ30_checkInvariants_70 ?_
  refine r_if_ne (tgt := 110) C (by decide) dJ30_checkInvariants_73 (fun _ => ?_) (fun z => absurd z (by decide))
  exact r_return C dJ30_checkInvariants_110 (Nat.le_refl _) (Nat.le_refl _) ⟨rfl, hw⟩
theorem b_J30_checkInvariants_37 {G : gT} {l : Launch} {V : Hp → Nat → Nat → Nat → List (Nat × Value) → List Value → Prop} {Q : Hp → Prop} (C : Cx G l V cJ30_checkInvariants 1 RJ30 1 12 0 0 (pV Q) none (none) [] false) (h : Hp) (x0 : Nat) (hw : B_J30_checkInvariants_37 Q h x0) : V h 0 0 37 [(0, .ref x0)] [] := by
  unfold B_J30_checkInvariants_37 at hw
  refine r_getAss C q1508 dJ30_checkInvariants_37 ?_
  refine r_if_ne (tgt := 70) C (by decide) dJ30_checkInvariants_40 (fun _ => ?_) (fun z => absurd z (by decide))
  exact r_sub C [0] rfl (b_J30_checkInvariants_70 C _ _ hw)
theorem b_J30_checkInvariants_62 {G : gT} {l : Launch} {V : Hp → Nat → Nat → Nat → List (Nat × Value) → List Value → Prop} {Q : Hp → Prop} (C : Cx G l V cJ30_checkInvariants 1 RJ30 1 12 0 0 (pV Q) none (none) [] false) (h : Hp) (hw : B_J30_checkInvariants_62 Q h) : V h 0 0 62 [] [] := by
  unfold B_J30_checkInvariants_62 at hw
  exact hw.elim
theorem sg_J30_checkInvariants : ySg yJ30_checkInvariants 0 = true := by decide +kernel
theorem c_J30_checkInvariants (G : gT) (l : Launch) (a0 : Nat) (h : Hp) (Q : Hp → Prop) (hw : w_J30_checkInvariants a0 h Q) : Ct G l yJ30_checkInvariants (ws_ yJ30_checkInvariants cJ30_checkInvariants 1 (none)) 1 12 0 0 [.ref a0] h (pV Q) := by
  refine Ct.of (own := RJ30) false (by decide +kernel) rfl (show (_ : Nat) ≤ _ from Nat.le_of_ble_eq_true rfl) (fun z => by cases z) (fun V C => ?_)
  show V h 0 0 0 [(0, .ref a0)] []
  unfold w_J30_checkInvariants at hw
  refine r_getAss C q1508 dJ30_checkInvariants_0 ?_
  refine r_if_ne (tgt := 37) C (by decide) dJ30_checkInvariants_3 (fun _ => ?_) (fun z => absurd z (by decide))
  exact r_sub C [0] rfl (b_J30_checkInvariants_37 C _ _ hw)
def S_J30_and_39 (Q : Hp → Prop) (LA39 : Hp → Nat → Nat → Int32 → Prop) (h : Hp) (x0 : Nat) (x1 : Nat) (x2 : Int32) : Prop :=
  gfI h x0 15 1 (fun v9 => (v9 ≤ x2 → hasC h x0 15 ∧ (w_J30_recalculateWordsInUse x0 h (fun h13 => hasC h13 x0 15 ∧ (w_J30_checkInvariants x0 h13 (fun h16 => Q h16))))) ∧ (¬ v9 ≤ x2 → gfR h x0 15 0 (fun v17 => nn v17 (fun y18 => rdL h y18 x2 (fun v19 => gfR h x1 15 0 (fun v20 => nn v20 (fun y21 => rdL h y21 x2 (fun v22 => wrL h y18 x2 (v19 &&& v22) (fun h23 => LA39 h23 x0 x1 (x2 + (1 : Int32)))))))))))
def B_J30_and_39 (Q : Hp → Prop) : Nat → Hp → Nat → Nat → Int32 → Prop
  | 0, _, _, _, _ => False
  | k + 1, h, x0, x1, x2 => S_J30_and_39 Q (B_J30_and_39 Q k) h x0 x1 x2
def S_J30_and_6 (Q : Hp → Prop) (LA6 : Hp → Nat → Nat → Prop) (h : Hp) (x0 : Nat) (x1 : Nat) : Prop :=
  gfI h x0 15 1 (fun v1 => gfI h x1 15 1 (fun v2 => (v1 ≤ v2 → ∃ k9 : Nat, B_J30_and_39 Q k9 h x0 x1 (0 : Int32)) ∧ (¬ v1 ≤ v2 → gfR h x0 15 0 (fun v4 => gfI h x0 15 1 (fun v5 => pf h x0 15 1 (.int (v5 - (1 : Int32))) (fun h6 => nn v4 (fun y8 => wrL h6 y8 (v5 - (1 : Int32)) (0 : Int64) (fun h7 => LA6 h7 x0 x1))))))))
def B_J30_and_6 (Q : Hp → Prop) : Nat → Hp → Nat → Nat → Prop
  | 0, _, _, _ => False
  | k + 1, h, x0, x1 => S_J30_and_6 Q (B_J30_and_6 Q k) h x0 x1
def w_J30_and (a0 : Nat) (a1 : Nat) (h : Hp) (Q : Hp → Prop) : Prop :=
  (¬ (some a0) = (some a1) → ∃ k9 : Nat, B_J30_and_6 Q k9 h a0 a1) ∧ ((some a0) = (some a1) → Q h)
theorem s_J30_and_39 {G : gT} {l : Launch} {V : Hp → Nat → Nat → Nat → List (Nat × Value) → List Value → Prop} {Q : Hp → Prop} (C : Cx G l V cJ30_and 3 RJ30 2 33 0 0 (pV Q) none (none) [] false) (LA39 : Hp → Nat → Nat → Int32 → Prop) (hLA39 : ∀ (h : Hp) (x0 : Nat) (x1 : Nat) (x2 : Int32), LA39 h x0 x1 x2 → V h 0 0 39 [(0, .ref x0), (1, .ref x1), (2, .int x2)] []) (h : Hp) (x0 : Nat) (x1 : Nat) (x2 : Int32) (hw : S_J30_and_39 Q LA39 h x0 x1 x2) : V h 0 0 39 [(0, .ref x0), (1, .ref x1), (2, .int x2)] [] := by
  unfold S_J30_and_39 at hw
  refine r_iload_n C rfl 2 rfl dJ30_and_39 (r_aload_n C rfl 0 rfl dJ30_and_40 ?_)
  refine r_gfI (k := 1) C kJ30 (by decide) (Or.inl q1405) (Or.inl rfl) dJ30_and_41 hw (fun v9 hw => ?_)
  refine r_icmp_ge (tgt := 68) C (by decide) dJ30_and_44 (fun hc10 => ?_) (fun hc10 => ?_)
  · have hw := hw.1 hc10
    refine r_aload_n C rfl 0 rfl dJ30_and_68 ?_
    obtain ⟨hq11, hw⟩ := hw
    refine r_callV (ci := 15) (rest := []) (As := []) C sg_J30_recalculateWordsInUse rfl rfl q1518 q1520 qs31 q116 q1521 rfl (Nat.le_of_ble_eq_true rfl) dJ30_and_69 rfl hq11 (Nat.le_refl _) (Nat.le_refl _) (c_J30_recalculateWordsInUse G l x0 h _ hw) (k_V (fun h13 hw => ?_))
    refine r_aload_n C rfl 0 rfl dJ30_and_72 ?_
    obtain ⟨hq14, hw⟩ := hw
    refine r_callV (ci := 15) (rest := []) (As := []) C sg_J30_checkInvariants rfl rfl q1504 q1506 qs30 q116 q1507 rfl (Nat.le_of_ble_eq_true rfl) dJ30_and_73 rfl hq14 (Nat.le_refl _) (Nat.le_refl _) (c_J30_checkInvariants G l x0 h13 _ hw) (k_V (fun h16 hw => ?_))
    exact r_return C dJ30_and_76 (Nat.le_refl _) (Nat.le_refl _) ⟨rfl, hw⟩
  · have hw := hw.2 hc10
    refine r_aload_n C rfl 0 rfl dJ30_and_47 ?_
    refine r_gfR (k := 0) C kJ30 (by decide) (Or.inl q1404) (Or.inl rfl) dJ30_and_48 hw (fun v17 hw => ?_)
    refine r_iload_n C rfl 2 rfl dJ30_and_51 (r_dup2_11 C rfl (va_rf_cat _) dJ30_and_52 ?_)
    obtain ⟨y18, rfl, hw_y18⟩ := hw
    have hw := hw_y18
    refine r_laload C dJ30_and_53 hw (fun v19 hw => ?_)
    refine r_aload_n C rfl 1 rfl dJ30_and_54 ?_
    refine r_gfR (k := 0) C kJ30 (by decide) (Or.inl q1404) (Or.inl rfl) dJ30_and_55 hw (fun v20 hw => ?_)
    refine r_iload_n C rfl 2 rfl dJ30_and_58 ?_
    obtain ⟨y21, rfl, hw_y21⟩ := hw
    have hw := hw_y21
    refine r_laload C dJ30_and_59 hw (fun v22 hw => ?_)
    refine r_land C dJ30_and_60 ?_
    refine r_lastore C dJ30_and_61 hw (fun h23 hw => ?_)
    refine r_iinc (v := x2 + (1 : Int32)) (L' := [(2, .int (x2 + (1 : Int32))), (0, .ref x0), (1, .ref x1)]) C (u := 2) rfl (by rfl) (by decide) rfl dJ30_and_62 (r_goto (tgt := 39) C (by decide) dJ30_and_65 ?_)
    exact r_sub C [1, 2, 0] rfl (hLA39 _ _ _ _ hw)
theorem b_J30_and_39 {G : gT} {l : Launch} {V : Hp → Nat → Nat → Nat → List (Nat × Value) → List Value → Prop} {Q : Hp → Prop} (C : Cx G l V cJ30_and 3 RJ30 2 33 0 0 (pV Q) none (none) [] false) : ∀ (k : Nat) (h : Hp) (x0 : Nat) (x1 : Nat) (x2 : Int32), B_J30_and_39 Q k h x0 x1 x2 → V h 0 0 39 [(0, .ref x0), (1, .ref x1), (2, .int x2)] [] := by
  intro k
  induction k with
  | zero =>
    intro h x0 x1 x2 hw
    exact hw.elim
  | succ k ih =>
    intro h x0 x1 x2 hw
    exact s_J30_and_39 C _ (fun h x0 x1 x2 hw => ih h x0 x1 x2 hw) h x0 x1 x2 hw
theorem s_J30_and_6 {G : gT} {l : Launch} {V : Hp → Nat → Nat → Nat → List (Nat × Value) → List Value → Prop} {Q : Hp → Prop} (C : Cx G l V cJ30_and 3 RJ30 2 33 0 0 (pV Q) none (none) [] false) (LA6 : Hp → Nat → Nat → Prop) (hLA6 : ∀ (h : Hp) (x0 : Nat) (x1 : Nat), LA6 h x0 x1 → V h 0 0 6 [(0, .ref x0), (1, .ref x1)] []) (h : Hp) (x0 : Nat) (x1 : Nat) (hw : S_J30_and_6 Q LA6 h x0 x1) : V h 0 0 6 [(0, .ref x0), (1, .ref x1)] [] := by
  unfold S_J30_and_6 at hw
  refine r_aload_n C rfl 0 rfl dJ30_and_6 ?_
  refine r_gfI (k := 1) C kJ30 (by decide) (Or.inl q1405) (Or.inl rfl) dJ30_and_7 hw (fun v1 hw => ?_)
  refine r_aload_n C rfl 1 rfl dJ30_and_10 ?_
  refine r_gfI (k := 1) C kJ30 (by decide) (Or.inl q1405) (Or.inl rfl) dJ30_and_11 hw (fun v2 hw => ?_)
  refine r_icmp_le (tgt := 37) C (by decide) dJ30_and_14 (fun hc3 => ?_) (fun hc3 => ?_)
  · have hw := hw.1 hc3
    refine r_iconst (v := (0 : Int32)) C (by decide) dJ30_and_37 (r_istore_n (L' := [(2, .int (0 : Int32)), (0, .ref x0), (1, .ref x1)]) C rfl (by decide) rfl dJ30_and_38 ?_)
    obtain ⟨k9, hw⟩ := hw
    exact r_sub C [1, 2, 0] rfl (b_J30_and_39 C _ _ _ _ _ hw)
  · have hw := hw.2 hc3
    refine r_aload_n C rfl 0 rfl dJ30_and_17 ?_
    refine r_gfR (k := 0) C kJ30 (by decide) (Or.inl q1404) (Or.inl rfl) dJ30_and_18 hw (fun v4 hw => ?_)
    refine r_aload_n C rfl 0 rfl dJ30_and_21 (r_dup C rfl dJ30_and_22 ?_)
    refine r_gfI (k := 1) C kJ30 (by decide) (Or.inl q1405) (Or.inl rfl) dJ30_and_23 hw (fun v5 hw => ?_)
    refine r_iconst (v := (1 : Int32)) C (by decide) dJ30_and_26 (r_isub C dJ30_and_27 (r_dup_x1 C rfl rfl dJ30_and_28 ?_))
    refine r_pf (k := 1) (v := .int (v5 - (1 : Int32))) C kJ30 (by decide) (Or.inl q1405) (Or.inl rfl) (Or.inl rfl) rfl rfl dJ30_and_29 hw (fun h6 hw => ?_)
    refine r_lconst (v := (0 : Int64)) C (by decide) dJ30_and_32 ?_
    obtain ⟨y8, rfl, hw_y8⟩ := hw
    have hw := hw_y8
    refine r_lastore C dJ30_and_33 hw (fun h7 hw => ?_)
    refine r_goto (tgt := 6) C (by decide) dJ30_and_34 ?_
    exact r_sub C [0, 1] rfl (hLA6 _ _ _ hw)
theorem b_J30_and_6 {G : gT} {l : Launch} {V : Hp → Nat → Nat → Nat → List (Nat × Value) → List Value → Prop} {Q : Hp → Prop} (C : Cx G l V cJ30_and 3 RJ30 2 33 0 0 (pV Q) none (none) [] false) : ∀ (k : Nat) (h : Hp) (x0 : Nat) (x1 : Nat), B_J30_and_6 Q k h x0 x1 → V h 0 0 6 [(0, .ref x0), (1, .ref x1)] [] := by
  intro k
  induction k with
  | zero =>
    intro h x0 x1 hw
    exact hw.elim
  | succ k ih =>
    intro h x0 x1 hw
    exact s_J30_and_6 C _ (fun h x0 x1 hw => ih h x0 x1 hw) h x0 x1 hw
theorem sg_J30_and : ySg yJ30_and 1 = true := by decide +kernel
theorem c_J30_and (G : gT) (l : Launch) (a0 : Nat) (a1 : Nat) (h : Hp) (Q : Hp → Prop) (hw : w_J30_and a0 a1 h Q) : Ct G l yJ30_and (ws_ yJ30_and cJ30_and 3 (none)) 2 33 0 0 [.ref a0, .ref a1] h (pV Q) := by
  refine Ct.of (own := RJ30) false (by decide +kernel) rfl (show (_ : Nat) ≤ _ from Nat.le_of_ble_eq_true rfl) (fun z => by cases z) (fun V C => ?_)
  show V h 0 0 0 [(0, .ref a0), (1, .ref a1)] []
  unfold w_J30_and at hw
  refine r_aload_n C rfl 0 rfl dJ30_and_0 (r_aload_n C rfl 1 rfl dJ30_and_1 ?_)
  refine r_acmp_ne (x := some a0) (y := some a1) (tgt := 6) C (by decide) dJ30_and_2 (fun hc24 => ?_) (fun hc24 => ?_)
  · have hw := hw.1 hc24
    obtain ⟨k9, hw⟩ := hw
    exact r_sub C [0, 1] rfl (b_J30_and_6 C _ _ _ _ hw)
  · have hw := hw.2 hc24
    exact r_return C dJ30_and_5 (Nat.le_refl _) (Nat.le_refl _) ⟨rfl, hw⟩
def S_J30_cardinality_4 (Q : Int32 → Hp → Prop) (LA4 : Hp → Nat → Int32 → Int32 → Prop) (h : Hp) (x0 : Nat) (x1 : Int32) (x2 : Int32) : Prop :=
  gfI h x0 15 1 (fun v1 => (v1 ≤ x2 → Q x1 h) ∧ (¬ v1 ≤ x2 → gfR h x0 15 0 (fun v3 => nn v3 (fun y4 => rdL h y4 x2 (fun v5 => w_J31_bitCount v5 h (fun r6 h7 => LA4 h7 x0 (x1 + r6) (x2 + (1 : Int32))))))))
def B_J30_cardinality_4 (Q : Int32 → Hp → Prop) : Nat → Hp → Nat → Int32 → Int32 → Prop
  | 0, _, _, _, _ => False
  | k + 1, h, x0, x1, x2 => S_J30_cardinality_4 Q (B_J30_cardinality_4 Q k) h x0 x1 x2
def w_J30_cardinality (a0 : Nat) (h : Hp) (Q : Int32 → Hp → Prop) : Prop :=
  ∃ k9 : Nat, B_J30_cardinality_4 Q k9 h a0 (0 : Int32) (0 : Int32)
theorem s_J30_cardinality_4 {G : gT} {l : Launch} {V : Hp → Nat → Nat → Nat → List (Nat × Value) → List Value → Prop} {Q : Int32 → Hp → Prop} (C : Cx G l V cJ30_cardinality 3 RJ30 2 33 0 0 (pI Q) none (some .int) [] false) (LA4 : Hp → Nat → Int32 → Int32 → Prop) (hLA4 : ∀ (h : Hp) (x0 : Nat) (x1 : Int32) (x2 : Int32), LA4 h x0 x1 x2 → V h 0 0 4 [(0, .ref x0), (1, .int x1), (2, .int x2)] []) (h : Hp) (x0 : Nat) (x1 : Int32) (x2 : Int32) (hw : S_J30_cardinality_4 Q LA4 h x0 x1 x2) : V h 0 0 4 [(0, .ref x0), (1, .int x1), (2, .int x2)] [] := by
  unfold S_J30_cardinality_4 at hw
  refine r_iload_n C rfl 2 rfl dJ30_cardinality_4 (r_aload_n C rfl 0 rfl dJ30_cardinality_5 ?_)
  refine r_gfI (k := 1) C kJ30 (by decide) (Or.inl q1405) (Or.inl rfl) dJ30_cardinality_6 hw (fun v1 hw => ?_)
  refine r_icmp_ge (tgt := 30) C (by decide) dJ30_cardinality_9 (fun hc2 => ?_) (fun hc2 => ?_)
  · have hw := hw.1 hc2
    refine r_iload_n C rfl 1 rfl dJ30_cardinality_30 ?_
    exact r_ireturn C dJ30_cardinality_31 (Nat.le_refl _) (Nat.le_refl _) ⟨_, rfl, hw⟩
  · have hw := hw.2 hc2
    refine r_iload_n C rfl 1 rfl dJ30_cardinality_12 (r_aload_n C rfl 0 rfl dJ30_cardinality_13 ?_)
    refine r_gfR (k := 0) C kJ30 (by decide) (Or.inl q1404) (Or.inl rfl) dJ30_cardinality_14 hw (fun v3 hw => ?_)
    refine r_iload_n C rfl 2 rfl dJ30_cardinality_17 ?_
    obtain ⟨y4, rfl, hw_y4⟩ := hw
    have hw := hw_y4
    refine r_laload C dJ30_cardinality_18 hw (fun v5 hw => ?_)
    refine r_callS (rest := [.int x1]) (As := [.long v5]) C sg_J31_bitCount q1672 q1673 q118 q1674 rfl (Nat.le_of_ble_eq_true rfl) dJ30_cardinality_19 rfl (Nat.le_refl _) (Nat.le_refl _) (c_J31_bitCount G l v5 h _ hw) (k_I (fun r6 h7 hw => ?_))
    refine r_iadd C dJ30_cardinality_22 (r_istore_n (L' := [(1, .int (x1 + r6)), (0, .ref x0), (2, .int x2)]) C rfl (by decide) rfl dJ30_cardinality_23 (r_iinc (v := x2 + (1 : Int32)) (L' := [(2, .int (x2 + (1 : Int32))), (1, .int (x1 + r6)), (0, .ref x0)]) C (u := 2) rfl (by rfl) (by decide) rfl dJ30_cardinality_24 (r_goto (tgt := 4) C (by decide) dJ30_cardinality_27 ?_)))
    exact r_sub C [2, 1, 0] rfl (hLA4 _ _ _ _ hw)
theorem b_J30_cardinality_4 {G : gT} {l : Launch} {V : Hp → Nat → Nat → Nat → List (Nat × Value) → List Value → Prop} {Q : Int32 → Hp → Prop} (C : Cx G l V cJ30_cardinality 3 RJ30 2 33 0 0 (pI Q) none (some .int) [] false) : ∀ (k : Nat) (h : Hp) (x0 : Nat) (x1 : Int32) (x2 : Int32), B_J30_cardinality_4 Q k h x0 x1 x2 → V h 0 0 4 [(0, .ref x0), (1, .int x1), (2, .int x2)] [] := by
  intro k
  induction k with
  | zero =>
    intro h x0 x1 x2 hw
    exact hw.elim
  | succ k ih =>
    intro h x0 x1 x2 hw
    exact s_J30_cardinality_4 C _ (fun h x0 x1 x2 hw => ih h x0 x1 x2 hw) h x0 x1 x2 hw
theorem sg_J30_cardinality : ySg yJ30_cardinality 0 = true := by decide +kernel
theorem c_J30_cardinality (G : gT) (l : Launch) (a0 : Nat) (h : Hp) (Q : Int32 → Hp → Prop) (hw : w_J30_cardinality a0 h Q) : Ct G l yJ30_cardinality (ws_ yJ30_cardinality cJ30_cardinality 3 (some .int)) 2 33 0 0 [.ref a0] h (pI Q) := by
  refine Ct.of (own := RJ30) false (by decide +kernel) rfl (show (_ : Nat) ≤ _ from Nat.le_of_ble_eq_true rfl) (fun z => by cases z) (fun V C => ?_)
  show V h 0 0 0 [(0, .ref a0)] []
  unfold w_J30_cardinality at hw
  refine r_iconst (v := (0 : Int32)) C (by decide) dJ30_cardinality_0 (r_istore_n (L' := [(1, .int (0 : Int32)), (0, .ref a0)]) C rfl (by decide) rfl dJ30_cardinality_1 (r_iconst (v := (0 : Int32)) C (by decide) dJ30_cardinality_2 (r_istore_n (L' := [(2, .int (0 : Int32)), (1, .int (0 : Int32)), (0, .ref a0)]) C rfl (by decide) rfl dJ30_cardinality_3 ?_)))
  obtain ⟨k9, hw⟩ := hw
  exact r_sub C [2, 1, 0] rfl (b_J30_cardinality_4 C _ _ _ _ _ hw)
def w_J30_ensureCapacity (a0 : Nat) (i1 : Int32) (h : Hp) (Q : Hp → Prop) : Prop :=
  gfR h a0 15 0 (fun v1 => nn v1 (fun y2 => alen h y2 (fun v3 => (i1 ≤ v3 → Q h) ∧ (¬ i1 ≤ v3 → gfR h a0 15 0 (fun v5 => nn v5 (fun y6 => alen h y6 (fun v7 => gfR h a0 15 0 (fun v8 => False))))))))
theorem sg_J30_ensureCapacity : ySg yJ30_ensureCapacity 1 = true := by decide +kernel
theorem c_J30_ensureCapacity (G : gT) (l : Launch) (a0 : Nat) (i1 : Int32) (h : Hp) (Q : Hp → Prop) (hw : w_J30_ensureCapacity a0 i1 h Q) : Ct G l yJ30_ensureCapacity (ws_ yJ30_ensureCapacity cJ30_ensureCapacity 3 (none)) 1 60 0 0 [.ref a0, .int i1] h (pV Q) := by
  refine Ct.of (own := RJ30) false (by decide +kernel) rfl (show (_ : Nat) ≤ _ from Nat.le_of_ble_eq_true rfl) (fun z => by cases z) (fun V C => ?_)
  show V h 0 0 0 [(0, .ref a0), (1, .int i1)] []
  unfold w_J30_ensureCapacity at hw
  refine r_aload_n C rfl 0 rfl dJ30_ensureCapacity_0 ?_
  refine r_gfR (k := 0) C kJ30 (by decide) (Or.inl q1404) (Or.inl rfl) dJ30_ensureCapacity_1 hw (fun v1 hw => ?_)
  obtain ⟨y2, rfl, hw_y2⟩ := hw
  have hw := hw_y2
  refine r_alen C dJ30_ensureCapacity_4 hw (fun v3 hw => ?_)
  refine r_iload_n C rfl 1 rfl dJ30_ensureCapacity_5 ?_
  refine r_icmp_ge (tgt := 38) C (by decide) dJ30_ensureCapacity_6 (fun hc4 => ?_) (fun hc4 => ?_)
  · have hw := hw.1 hc4
    exact r_return C dJ30_ensureCapacity_38 (Nat.le_refl _) (Nat.le_refl _) ⟨rfl, hw⟩
  · have hw := hw.2 hc4
    refine r_iconst (v := (2 : Int32)) C (by decide) dJ30_ensureCapacity_9 (r_aload_n C rfl 0 rfl dJ30_ensureCapacity_10 ?_)
    refine r_gfR (k := 0) C kJ30 (by decide) (Or.inl q1404) (Or.inl rfl) dJ30_ensureCapacity_11 hw (fun v5 hw => ?_)
    obtain ⟨y6, rfl, hw_y6⟩ := hw
    have hw := hw_y6
    refine r_alen C dJ30_ensureCapacity_14 hw (fun v7 hw => ?_)
    refine r_imul C dJ30_ensureCapacity_15 (r_iload_n C rfl 1 rfl dJ30_ensureCapacity_16 ?_)
    refine r_mmmax C q1495 q217 q85 q218 dJ30_ensureCapacity_17 (Nat.le_refl _) (Nat.le_refl _) ⟨Nat.le_of_ble_eq_true rfl, Nat.le_of_ble_eq_true rfl⟩ ?_
    refine r_istore_n (L' := [(2, .int (if ((2 : Int32) * v7) < i1 then i1 else ((2 : Int32) * v7))), (0, .ref a0), (1, .int i1)]) C rfl (by decide) rfl dJ30_ensureCapacity_20 (r_aload_n C rfl 1 rfl dJ30_ensureCapacity_21 (r_aload_n C rfl 1 rfl dJ30_ensureCapacity_22 ?_))
    refine r_gfR (k := 0) C kJ30 (by decide) (Or.inl q1404) (Or.inl rfl) dJ30_ensureCapacity_23 hw (fun v8 hw => ?_)
    refine r_iload_n C rfl 0 rfl dJ30_ensureCapacity_26 ?_
    exact hw.elim
def w_J30_expandTo (a0 : Nat) (i1 : Int32) (h : Hp) (Q : Hp → Prop) : Prop :=
  gfI h a0 15 1 (fun v1 => ((i1 + (1 : Int32)) ≤ v1 → Q h) ∧ (¬ (i1 + (1 : Int32)) ≤ v1 → hasC h a0 15 ∧ (w_J30_ensureCapacity a0 (i1 + (1 : Int32)) h (fun h5 => pf h5 a0 15 1 (.int (i1 + (1 : Int32))) (fun h6 => Q h6)))))
theorem sg_J30_expandTo : ySg yJ30_expandTo 1 = true := by decide +kernel
theorem c_J30_expandTo (G : gT) (l : Launch) (a0 : Nat) (i1 : Int32) (h : Hp) (Q : Hp → Prop) (hw : w_J30_expandTo a0 i1 h Q) : Ct G l yJ30_expandTo (ws_ yJ30_expandTo cJ30_expandTo 3 (none)) 2 82 0 0 [.ref a0, .int i1] h (pV Q) := by
  refine Ct.of (own := RJ30) false (by decide +kernel) rfl (show (_ : Nat) ≤ _ from Nat.le_of_ble_eq_true rfl) (fun z => by cases z) (fun V C => ?_)
  show V h 0 0 0 [(0, .ref a0), (1, .int i1)] []
  unfold w_J30_expandTo at hw
  refine r_iload_n C rfl 1 rfl dJ30_expandTo_0 (r_iconst (v := (1 : Int32)) C (by decide) dJ30_expandTo_1 (r_iadd C dJ30_expandTo_2 (r_istore_n (L' := [(2, .int (i1 + (1 : Int32))), (0, .ref a0), (1, .int i1)]) C rfl (by decide) rfl dJ30_expandTo_3 (r_aload_n C rfl 1 rfl dJ30_expandTo_4 ?_))))
  refine r_gfI (k := 1) C kJ30 (by decide) (Or.inl q1405) (Or.inl rfl) dJ30_expandTo_5 hw (fun v1 hw => ?_)
  refine r_iload_n C rfl 0 rfl dJ30_expandTo_8 ?_
  refine r_icmp_ge (tgt := 22) C (by decide) dJ30_expandTo_9 (fun hc2 => ?_) (fun hc2 => ?_)
  · have hw := hw.1 hc2
    exact r_return C dJ30_expandTo_22 (Nat.le_refl _) (Nat.le_refl _) ⟨rfl, hw⟩
  · have hw := hw.2 hc2
    refine r_aload_n C rfl 1 rfl dJ30_expandTo_12 (r_iload_n C rfl 0 rfl dJ30_expandTo_13 ?_)
    obtain ⟨hq3, hw⟩ := hw
    refine r_callV (ci := 15) (rest := []) (As := [.int (i1 + (1 : Int32))]) C sg_J30_ensureCapacity rfl rfl q1491 q1493 qs29 q116 q1494 rfl (Nat.le_of_ble_eq_true rfl) dJ30_expandTo_14 rfl hq3 (Nat.le_refl _) (Nat.le_refl _) (c_J30_ensureCapacity G l a0 (i1 + (1 : Int32)) h _ hw) (k_V (fun h5 hw => ?_))
    refine r_aload_n C rfl 1 rfl dJ30_expandTo_17 (r_iload_n C rfl 0 rfl dJ30_expandTo_18 ?_)
    refine r_pf (k := 1) (v := .int (i1 + (1 : Int32))) C kJ30 (by decide) (Or.inl q1405) (Or.inl rfl) (Or.inl rfl) rfl rfl dJ30_expandTo_19 hw (fun h6 hw => ?_)
    exact r_return C dJ30_expandTo_22 (Nat.le_refl _) (Nat.le_refl _) ⟨rfl, hw⟩
def w_J30_get (a0 : Nat) (i1 : Int32) (h : Hp) (Q : Bool → Hp → Prop) : Prop :=
  (0 ≤ i1 → hasC h a0 15 ∧ (w_J30_checkInvariants a0 h (fun h4 => w_J30_wordIndex i1 h4 (fun r5 h6 => gfI h6 a0 15 1 (fun v7 => (v7 ≤ r5 → Q false h6) ∧ (¬ v7 ≤ r5 → gfR h6 a0 15 0 (fun v9 => nn v9 (fun y10 => rdL h6 y10 r5 (fun v11 => Q (if (lg_cmp (v11 &&& ((1 : Int64) <<< (i1.toInt64 &&& 63))) (0 : Int64)) = 0 then false else true) h6))))))))) ∧ (¬ 0 ≤ i1 → False)
theorem sg_J30_get : ySg yJ30_get 1 = true := by decide +kernel
theorem c_J30_get (G : gT) (l : Launch) (a0 : Nat) (i1 : Int32) (h : Hp) (Q : Bool → Hp → Prop) (hw : w_J30_get a0 i1 h Q) : Ct G l yJ30_get (ws_ yJ30_get cJ30_get 3 (some .boolean)) 2 32 0 0 [.ref a0, .int i1] h (pZ Q) := by
  refine Ct.of (own := RJ30) false (by decide +kernel) rfl (show (_ : Nat) ≤ _ from Nat.le_of_ble_eq_true rfl) (fun z => by cases z) (fun V C => ?_)
  show V h 0 0 0 [(0, .ref a0), (1, .int i1)] []
  unfold w_J30_get at hw
  refine r_iload_n C rfl 1 rfl dJ30_get_0 ?_
  refine r_if_ge (tgt := 31) C (by decide) dJ30_get_1 (fun hc1 => ?_) (fun hc1 => ?_)
  · have hw := hw.1 hc1
    refine r_aload_n C rfl 0 rfl dJ30_get_31 ?_
    obtain ⟨hq2, hw⟩ := hw
    refine r_callV (ci := 15) (rest := []) (As := []) C sg_J30_checkInvariants rfl rfl q1504 q1506 qs30 q116 q1507 rfl (Nat.le_of_ble_eq_true rfl) dJ30_get_32 rfl hq2 (Nat.le_refl _) (Nat.le_refl _) (c_J30_checkInvariants G l a0 h _ hw) (k_V (fun h4 hw => ?_))
    refine r_iload_n C rfl 1 rfl dJ30_get_35 ?_
    refine r_callS (rest := []) (As := [.int i1]) C sg_J30_wordIndex q1401 q1402 q116 q1403 rfl (Nat.le_of_ble_eq_true rfl) dJ30_get_36 rfl (Nat.le_refl _) (Nat.le_refl _) (c_J30_wordIndex G l i1 h4 _ hw) (k_I (fun r5 h6 hw => ?_))
    refine r_istore_n (L' := [(2, .int r5), (0, .ref a0), (1, .int i1)]) C rfl (by decide) rfl dJ30_get_39 (r_iload_n C rfl 0 rfl dJ30_get_40 (r_aload_n C rfl 1 rfl dJ30_get_41 ?_))
    refine r_gfI (k := 1) C kJ30 (by decide) (Or.inl q1405) (Or.inl rfl) dJ30_get_42 hw (fun v7 hw => ?_)
    refine r_icmp_ge (tgt := 67) C (by decide) dJ30_get_45 (fun hc8 => ?_) (fun hc8 => ?_)
    · have hw := hw.1 hc8
      refine r_iconst (v := (0 : Int32)) C (by decide) dJ30_get_67 ?_
      exact r_zreturn (x := false) C dJ30_get_68 (Nat.le_refl _) (Nat.le_refl _) ⟨_, rfl, hw⟩
    · have hw := hw.2 hc8
      refine r_aload_n C rfl 1 rfl dJ30_get_48 ?_
      refine r_gfR (k := 0) C kJ30 (by decide) (Or.inl q1404) (Or.inl rfl) dJ30_get_49 hw (fun v9 hw => ?_)
      refine r_iload_n C rfl 0 rfl dJ30_get_52 ?_
      obtain ⟨y10, rfl, hw_y10⟩ := hw
      have hw := hw_y10
      refine r_laload C dJ30_get_53 hw (fun v11 hw => ?_)
      refine r_lconst (v := (1 : Int64)) C (by decide) dJ30_get_54 (r_iload_n C rfl 2 rfl dJ30_get_55 (r_lshl C dJ30_get_56 (r_land C dJ30_get_57 (r_lconst (v := (0 : Int64)) C (by decide) dJ30_get_58 (r_lcmp C dJ30_get_59 ?_)))))
      have hJ : V h6 0 0 68 [] [.int (bI (if (lg_cmp (v11 &&& ((1 : Int64) <<< (i1.toInt64 &&& 63))) (0 : Int64)) = 0 then false else true))] := by
        exact r_zreturn (x := (if (lg_cmp (v11 &&& ((1 : Int64) <<< (i1.toInt64 &&& 63))) (0 : Int64)) = 0 then false else true)) C dJ30_get_68 (Nat.le_refl _) (Nat.le_refl _) ⟨_, rfl, hw⟩
      refine r_if_eq (tgt := 67) C (by decide) dJ30_get_60 (fun hc12 => ?_) (fun hc12 => ?_)
      · have hJ13 := hJ
        try simp only [if_pos hc12] at hJ13
        refine r_iconst (v := (0 : Int32)) C (by decide) dJ30_get_67 ?_
        exact r_sub C [] rfl hJ13
      · have hJ13 := hJ
        try simp only [if_neg hc12] at hJ13
        refine r_iconst (v := (1 : Int32)) C (by decide) dJ30_get_63 (r_goto (tgt := 68) C (by decide) dJ30_get_64 ?_)
        exact r_sub C [] rfl hJ13
  · have hw := hw.2 hc1
    exact hw.elim
def w_J30_isEmpty (a0 : Nat) (h : Hp) (Q : Bool → Hp → Prop) : Prop :=
  gfI h a0 15 1 (fun v1 => Q (if ¬ v1 = 0 then false else true) h)
theorem sg_J30_isEmpty : ySg yJ30_isEmpty 0 = true := by decide +kernel
theorem c_J30_isEmpty (G : gT) (l : Launch) (a0 : Nat) (h : Hp) (Q : Bool → Hp → Prop) (hw : w_J30_isEmpty a0 h Q) : Ct G l yJ30_isEmpty (ws_ yJ30_isEmpty cJ30_isEmpty 1 (some .boolean)) 1 12 0 0 [.ref a0] h (pZ Q) := by
  refine Ct.of (own := RJ30) false (by decide +kernel) rfl (show (_ : Nat) ≤ _ from Nat.le_of_ble_eq_true rfl) (fun z => by cases z) (fun V C => ?_)
  show V h 0 0 0 [(0, .ref a0)] []
  unfold w_J30_isEmpty at hw
  refine r_aload_n C rfl 0 rfl dJ30_isEmpty_0 ?_
  refine r_gfI (k := 1) C kJ30 (by decide) (Or.inl q1405) (Or.inl rfl) dJ30_isEmpty_1 hw (fun v1 hw => ?_)
  have hJ : V h 0 0 12 [] [.int (bI (if ¬ v1 = 0 then false else true))] := by
    exact r_zreturn (x := (if ¬ v1 = 0 then false else true)) C dJ30_isEmpty_12 (Nat.le_refl _) (Nat.le_refl _) ⟨_, rfl, hw⟩
  refine r_if_ne (tgt := 11) C (by decide) dJ30_isEmpty_4 (fun hc2 => ?_) (fun hc2 => ?_)
  · have hJ3 := hJ
    try simp only [if_pos hc2] at hJ3
    refine r_iconst (v := (0 : Int32)) C (by decide) dJ30_isEmpty_11 ?_
    exact r_sub C [] rfl hJ3
  · have hJ3 := hJ
    try simp only [if_neg (show ¬ ¬ v1 = 0 from fun z => z hc2)] at hJ3
    refine r_iconst (v := (1 : Int32)) C (by decide) dJ30_isEmpty_7 (r_goto (tgt := 12) C (by decide) dJ30_isEmpty_8 ?_)
    exact r_sub C [] rfl hJ3
def w_J30_length (a0 : Nat) (h : Hp) (Q : Int32 → Hp → Prop) : Prop :=
  gfI h a0 15 1 (fun v1 => (¬ v1 = 0 → gfI h a0 15 1 (fun v3 => gfR h a0 15 0 (fun v4 => gfI h a0 15 1 (fun v5 => nn v4 (fun y6 => rdL h y6 (v5 - (1 : Int32)) (fun v7 => w_J31_numberOfLeadingZeros v7 h (fun r8 h9 => Q (((64 : Int32) * (v3 - (1 : Int32))) + ((64 : Int32) - r8)) h9))))))) ∧ (v1 = 0 → Q (0 : Int32) h))
theorem sg_J30_length : ySg yJ30_length 0 = true := by decide +kernel
theorem c_J30_length (G : gT) (l : Launch) (a0 : Nat) (h : Hp) (Q : Int32 → Hp → Prop) (hw : w_J30_length a0 h Q) : Ct G l yJ30_length (ws_ yJ30_length cJ30_length 1 (some .int)) 3 55 0 0 [.ref a0] h (pI Q) := by
  refine Ct.of (own := RJ30) false (by decide +kernel) rfl (show (_ : Nat) ≤ _ from Nat.le_of_ble_eq_true rfl) (fun z => by cases z) (fun V C => ?_)
  show V h 0 0 0 [(0, .ref a0)] []
  unfold w_J30_length at hw
  refine r_aload_n C rfl 0 rfl dJ30_length_0 ?_
  refine r_gfI (k := 1) C kJ30 (by decide) (Or.inl q1405) (Or.inl rfl) dJ30_length_1 hw (fun v1 hw => ?_)
  refine r_if_ne (tgt := 9) C (by decide) dJ30_length_4 (fun hc2 => ?_) (fun hc2 => ?_)
  · have hw := hw.1 hc2
    refine r_bipush (v := (64 : Int32)) C (by decide) dJ30_length_9 (r_aload_n C rfl 0 rfl dJ30_length_11 ?_)
    refine r_gfI (k := 1) C kJ30 (by decide) (Or.inl q1405) (Or.inl rfl) dJ30_length_12 hw (fun v3 hw => ?_)
    refine r_iconst (v := (1 : Int32)) C (by decide) dJ30_length_15 (r_isub C dJ30_length_16 (r_imul C dJ30_length_17 (r_bipush (v := (64 : Int32)) C (by decide) dJ30_length_18 (r_aload_n C rfl 0 rfl dJ30_length_20 ?_))))
    refine r_gfR (k := 0) C kJ30 (by decide) (Or.inl q1404) (Or.inl rfl) dJ30_length_21 hw (fun v4 hw => ?_)
    refine r_aload_n C rfl 0 rfl dJ30_length_24 ?_
    refine r_gfI (k := 1) C kJ30 (by decide) (Or.inl q1405) (Or.inl rfl) dJ30_length_25 hw (fun v5 hw => ?_)
    refine r_iconst (v := (1 : Int32)) C (by decide) dJ30_length_28 (r_isub C dJ30_length_29 ?_)
    obtain ⟨y6, rfl, hw_y6⟩ := hw
    have hw := hw_y6
    refine r_laload C dJ30_length_30 hw (fun v7 hw => ?_)
    refine r_callS (rest := [.int (64 : Int32), .int ((64 : Int32) * (v3 - (1 : Int32)))]) (As := [.long v7]) C sg_J31_numberOfLeadingZeros q1662 q1663 q118 q1664 rfl (Nat.le_of_ble_eq_true rfl) dJ30_length_31 rfl (Nat.le_refl _) (Nat.le_refl _) (c_J31_numberOfLeadingZeros G l v7 h _ hw) (k_I (fun r8 h9 hw => ?_))
    refine r_isub C dJ30_length_34 (r_iadd C dJ30_length_35 ?_)
    exact r_ireturn C dJ30_length_36 (Nat.le_refl _) (Nat.le_refl _) ⟨_, rfl, hw⟩
  · have hw := hw.2 hc2
    refine r_iconst (v := (0 : Int32)) C (by decide) dJ30_length_7 ?_
    exact r_ireturn C dJ30_length_8 (Nat.le_refl _) (Nat.le_refl _) ⟨_, rfl, hw⟩
def S_J30_nextSetBit_63 (Q : Int32 → Hp → Prop) (LA63 : Hp → Nat → Int32 → Int64 → Prop) (h : Hp) (x0 : Nat) (x2 : Int32) (x3 : Int64) : Prop :=
  ((lg_cmp x3 (0 : Int64)) = 0 → gfI h x0 15 1 (fun v2 => (¬ (x2 + (1 : Int32)) = v2 → gfR h x0 15 0 (fun v4 => nn v4 (fun y5 => rdL h y5 (x2 + (1 : Int32)) (fun v6 => LA63 h x0 (x2 + (1 : Int32)) v6)))) ∧ ((x2 + (1 : Int32)) = v2 → Q (-1 : Int32) h))) ∧ (¬ (lg_cmp x3 (0 : Int64)) = 0 → w_J31_numberOfTrailingZeros x3 h (fun r7 h8 => Q ((x2 * (64 : Int32)) + r7) h8))
def B_J30_nextSetBit_63 (Q : Int32 → Hp → Prop) : Nat → Hp → Nat → Int32 → Int64 → Prop
  | 0, _, _, _, _ => False
  | k + 1, h, x0, x2, x3 => S_J30_nextSetBit_63 Q (B_J30_nextSetBit_63 Q k) h x0 x2 x3
def w_J30_nextSetBit (a0 : Nat) (i1 : Int32) (h : Hp) (Q : Int32 → Hp → Prop) : Prop :=
  (0 ≤ i1 → hasC h a0 15 ∧ (w_J30_checkInvariants a0 h (fun h12 => w_J30_wordIndex i1 h12 (fun r13 h14 => gfI h14 a0 15 1 (fun v15 => (r13 < v15 → gfR h14 a0 15 0 (fun v17 => nn v17 (fun y18 => rdL h14 y18 r13 (fun v19 => ∃ k9 : Nat, B_J30_nextSetBit_63 Q k9 h14 a0 r13 (v19 &&& ((-1 : Int64) <<< (i1.toInt64 &&& 63))))))) ∧ (¬ r13 < v15 → Q (-1 : Int32) h14)))))) ∧ (¬ 0 ≤ i1 → False)
theorem s_J30_nextSetBit_63 {G : gT} {l : Launch} {V : Hp → Nat → Nat → Nat → List (Nat × Value) → List Value → Prop} {Q : Int32 → Hp → Prop} (C : Cx G l V cJ30_nextSetBit 5 RJ30 3 55 0 0 (pI Q) none (some .int) [] false) (LA63 : Hp → Nat → Int32 → Int64 → Prop) (hLA63 : ∀ (h : Hp) (x0 : Nat) (x2 : Int32) (x3 : Int64), LA63 h x0 x2 x3 → V h 0 0 63 [(0, .ref x0), (2, .int x2), (3, .long x3)] []) (h : Hp) (x0 : Nat) (x2 : Int32) (x3 : Int64) (hw : S_J30_nextSetBit_63 Q LA63 h x0 x2 x3) : V h 0 0 63 [(0, .ref x0), (2, .int x2), (3, .long x3)] [] := by
  unfold S_J30_nextSetBit_63 at hw
  refine r_lload_n C rfl 2 rfl dJ30_nextSetBit_63 (r_lconst (v := (0 : Int64)) C (by decide) dJ30_nextSetBit_64 (r_lcmp C dJ30_nextSetBit_65 ?_))
  refine r_if_eq (tgt := 79) C (by decide) dJ30_nextSetBit_66 (fun hc1 => ?_) (fun hc1 => ?_)
  · have hw := hw.1 hc1
    refine r_iinc (v := x2 + (1 : Int32)) (L' := [(2, .int (x2 + (1 : Int32))), (0, .ref x0), (3, .long x3)]) C (u := 1) rfl (by rfl) (by decide) rfl dJ30_nextSetBit_79 (r_iload_n C rfl 0 rfl dJ30_nextSetBit_82 (r_aload_n C rfl 1 rfl dJ30_nextSetBit_83 ?_))
    refine r_gfI (k := 1) C kJ30 (by decide) (Or.inl q1405) (Or.inl rfl) dJ30_nextSetBit_84 hw (fun v2 hw => ?_)
    refine r_icmp_ne (tgt := 92) C (by decide) dJ30_nextSetBit_87 (fun hc3 => ?_) (fun hc3 => ?_)
    · have hw := hw.1 hc3
      refine r_aload_n C rfl 1 rfl dJ30_nextSetBit_92 ?_
      refine r_gfR (k := 0) C kJ30 (by decide) (Or.inl q1404) (Or.inl rfl) dJ30_nextSetBit_93 hw (fun v4 hw => ?_)
      refine r_iload_n C rfl 0 rfl dJ30_nextSetBit_96 ?_
      obtain ⟨y5, rfl, hw_y5⟩ := hw
      have hw := hw_y5
      refine r_laload C dJ30_nextSetBit_97 hw (fun v6 hw => ?_)
      refine r_lstore_n (L' := [(3, .long v6), (2, .int (x2 + (1 : Int32))), (0, .ref x0)]) C rfl (by decide) rfl dJ30_nextSetBit_98 (r_goto (tgt := 63) C (by decide) dJ30_nextSetBit_99 ?_)
      exact r_sub C [2, 1, 0] rfl (hLA63 _ _ _ _ hw)
    · have hw := hw.2 hc3
      refine r_iconst (v := (-1 : Int32)) C (by decide) dJ30_nextSetBit_90 ?_
      exact r_ireturn C dJ30_nextSetBit_91 (Nat.le_refl _) (Nat.le_refl _) ⟨_, rfl, hw⟩
  · have hw := hw.2 hc1
    refine r_iload_n C rfl 1 rfl dJ30_nextSetBit_69 (r_bipush (v := (64 : Int32)) C (by decide) dJ30_nextSetBit_70 (r_imul C dJ30_nextSetBit_72 (r_lload_n C rfl 2 rfl dJ30_nextSetBit_73 ?_)))
    refine r_callS (rest := [.int (x2 * (64 : Int32))]) (As := [.long x3]) C sg_J31_numberOfTrailingZeros q1569 q1570 q118 q1571 rfl (Nat.le_of_ble_eq_true rfl) dJ30_nextSetBit_74 rfl (Nat.le_refl _) (Nat.le_refl _) (c_J31_numberOfTrailingZeros G l x3 h _ hw) (k_I (fun r7 h8 hw => ?_))
    refine r_iadd C dJ30_nextSetBit_77 ?_
    exact r_ireturn C dJ30_nextSetBit_78 (Nat.le_refl _) (Nat.le_refl _) ⟨_, rfl, hw⟩
theorem b_J30_nextSetBit_63 {G : gT} {l : Launch} {V : Hp → Nat → Nat → Nat → List (Nat × Value) → List Value → Prop} {Q : Int32 → Hp → Prop} (C : Cx G l V cJ30_nextSetBit 5 RJ30 3 55 0 0 (pI Q) none (some .int) [] false) : ∀ (k : Nat) (h : Hp) (x0 : Nat) (x2 : Int32) (x3 : Int64), B_J30_nextSetBit_63 Q k h x0 x2 x3 → V h 0 0 63 [(0, .ref x0), (2, .int x2), (3, .long x3)] [] := by
  intro k
  induction k with
  | zero =>
    intro h x0 x2 x3 hw
    exact hw.elim
  | succ k ih =>
    intro h x0 x2 x3 hw
    exact s_J30_nextSetBit_63 C _ (fun h x0 x2 x3 hw => ih h x0 x2 x3 hw) h x0 x2 x3 hw
theorem sg_J30_nextSetBit : ySg yJ30_nextSetBit 1 = true := by decide +kernel
theorem c_J30_nextSetBit (G : gT) (l : Launch) (a0 : Nat) (i1 : Int32) (h : Hp) (Q : Int32 → Hp → Prop) (hw : w_J30_nextSetBit a0 i1 h Q) : Ct G l yJ30_nextSetBit (ws_ yJ30_nextSetBit cJ30_nextSetBit 5 (some .int)) 3 55 0 0 [.ref a0, .int i1] h (pI Q) := by
  refine Ct.of (own := RJ30) false (by decide +kernel) rfl (show (_ : Nat) ≤ _ from Nat.le_of_ble_eq_true rfl) (fun z => by cases z) (fun V C => ?_)
  show V h 0 0 0 [(0, .ref a0), (1, .int i1)] []
  unfold w_J30_nextSetBit at hw
  refine r_iload_n C rfl 1 rfl dJ30_nextSetBit_0 ?_
  refine r_if_ge (tgt := 31) C (by decide) dJ30_nextSetBit_1 (fun hc9 => ?_) (fun hc9 => ?_)
  · have hw := hw.1 hc9
    refine r_aload_n C rfl 0 rfl dJ30_nextSetBit_31 ?_
    obtain ⟨hq10, hw⟩ := hw
    refine r_callV (ci := 15) (rest := []) (As := []) C sg_J30_checkInvariants rfl rfl q1504 q1506 qs30 q116 q1507 rfl (Nat.le_of_ble_eq_true rfl) dJ30_nextSetBit_32 rfl hq10 (Nat.le_refl _) (Nat.le_refl _) (c_J30_checkInvariants G l a0 h _ hw) (k_V (fun h12 hw => ?_))
    refine r_iload_n C rfl 1 rfl dJ30_nextSetBit_35 ?_
    refine r_callS (rest := []) (As := [.int i1]) C sg_J30_wordIndex q1401 q1402 q116 q1403 rfl (Nat.le_of_ble_eq_true rfl) dJ30_nextSetBit_36 rfl (Nat.le_refl _) (Nat.le_refl _) (c_J30_wordIndex G l i1 h12 _ hw) (k_I (fun r13 h14 hw => ?_))
    refine r_istore_n (L' := [(2, .int r13), (0, .ref a0), (1, .int i1)]) C rfl (by decide) rfl dJ30_nextSetBit_39 (r_iload_n C rfl 0 rfl dJ30_nextSetBit_40 (r_aload_n C rfl 1 rfl dJ30_nextSetBit_41 ?_))
    refine r_gfI (k := 1) C kJ30 (by decide) (Or.inl q1405) (Or.inl rfl) dJ30_nextSetBit_42 hw (fun v15 hw => ?_)
    refine r_icmp_lt (tgt := 50) C (by decide) dJ30_nextSetBit_45 (fun hc16 => ?_) (fun hc16 => ?_)
    · have hw := hw.1 hc16
      refine r_aload_n C rfl 1 rfl dJ30_nextSetBit_50 ?_
      refine r_gfR (k := 0) C kJ30 (by decide) (Or.inl q1404) (Or.inl rfl) dJ30_nextSetBit_51 hw (fun v17 hw => ?_)
      refine r_iload_n C rfl 0 rfl dJ30_nextSetBit_54 ?_
      obtain ⟨y18, rfl, hw_y18⟩ := hw
      have hw := hw_y18
      refine r_laload C dJ30_nextSetBit_55 hw (fun v19 hw => ?_)
      refine r_ldc2 (v := (-1 : Int64)) C q1568 dJ30_nextSetBit_56 (r_iload_n C rfl 2 rfl dJ30_nextSetBit_59 (r_lshl C dJ30_nextSetBit_60 (r_land C dJ30_nextSetBit_61 (r_lstore_n (L' := [(3, .long (v19 &&& ((-1 : Int64) <<< (i1.toInt64 &&& 63)))), (2, .int r13), (0, .ref a0), (1, .int i1)]) C rfl (by decide) rfl dJ30_nextSetBit_62 ?_))))
      obtain ⟨k9, hw⟩ := hw
      exact r_sub C [2, 1, 0] rfl (b_J30_nextSetBit_63 C _ _ _ _ _ hw)
    · have hw := hw.2 hc16
      refine r_iconst (v := (-1 : Int32)) C (by decide) dJ30_nextSetBit_48 ?_
      exact r_ireturn C dJ30_nextSetBit_49 (Nat.le_refl _) (Nat.le_refl _) ⟨_, rfl, hw⟩
  · have hw := hw.2 hc9
    exact hw.elim
def B_J30_or_100 (Q : Hp → Prop) (h : Hp) (x0 : Nat) : Prop :=
  hasC h x0 15 ∧ (w_J30_checkInvariants x0 h (fun h19 => Q h19))
def S_J30_or_47 (Q : Hp → Prop) (LA47 : Hp → Nat → Nat → Int32 → Int32 → Prop) (h : Hp) (x0 : Nat) (x1 : Nat) (x2 : Int32) (x3 : Int32) : Prop :=
  (x2 ≤ x3 → gfI h x1 15 1 (fun v2 => (v2 ≤ x2 → B_J30_or_100 Q h x0) ∧ (¬ v2 ≤ x2 → gfR h x1 15 0 (fun v4 => gfR h x0 15 0 (fun v5 => gfI h x0 15 1 (fun v6 => nn v5 (fun y7 => nn v4 (fun y8 => cpL h y8 x2 y7 x2 (v6 - x2) (fun h9 => B_J30_or_100 Q h9 x0))))))))) ∧ (¬ x2 ≤ x3 → gfR h x0 15 0 (fun v10 => nn v10 (fun y11 => rdL h y11 x3 (fun v12 => gfR h x1 15 0 (fun v13 => nn v13 (fun y14 => rdL h y14 x3 (fun v15 => wrL h y11 x3 (v12 ||| v15) (fun h16 => LA47 h16 x0 x1 x2 (x3 + (1 : Int32))))))))))
def B_J30_or_47 (Q : Hp → Prop) : Nat → Hp → Nat → Nat → Int32 → Int32 → Prop
  | 0, _, _, _, _, _ => False
  | k + 1, h, x0, x1, x2, x3 => S_J30_or_47 Q (B_J30_or_47 Q k) h x0 x1 x2 x3
def B_J30_or_45 (Q : Hp → Prop) (h : Hp) (x0 : Nat) (x1 : Nat) (x2 : Int32) : Prop :=
  ∃ k9 : Nat, B_J30_or_47 Q k9 h x0 x1 x2 (0 : Int32)
def w_J30_or (a0 : Nat) (a1 : Nat) (h : Hp) (Q : Hp → Prop) : Prop :=
  (¬ (some a0) = (some a1) → gfI h a0 15 1 (fun v21 => gfI h a1 15 1 (fun v22 => gfI h a0 15 1 (fun v23 => gfI h a1 15 1 (fun v24 => (v24 ≤ v23 → B_J30_or_45 Q h a0 a1 (if v22 < v21 then v22 else v21)) ∧ (¬ v24 ≤ v23 → gfI h a1 15 1 (fun v26 => hasC h a0 15 ∧ (w_J30_ensureCapacity a0 v26 h (fun h29 => gfI h29 a1 15 1 (fun v30 => pf h29 a0 15 1 (.int v30) (fun h31 => B_J30_or_45 Q h31 a0 a1 (if v22 < v21 then v22 else v21)))))))))))) ∧ ((some a0) = (some a1) → Q h)
theorem b_J30_or_100 {G : gT} {l : Launch} {V : Hp → Nat → Nat → Nat → List (Nat × Value) → List Value → Prop} {Q : Hp → Prop} (C : Cx G l V cJ30_or 4 RJ30 2 82 0 0 (pV Q) none (none) [] false) (h : Hp) (x0 : Nat) (hw : B_J30_or_100 Q h x0) : V h 0 0 100 [(0, .ref x0)] [] := by
  unfold B_J30_or_100 at hw
  refine r_aload_n C rfl 0 rfl dJ30_or_100 ?_
  obtain ⟨hq17, hw⟩ := hw
  refine r_callV (ci := 15) (rest := []) (As := []) C sg_J30_checkInvariants rfl rfl q1504 q1506 qs30 q116 q1507 rfl (Nat.le_of_ble_eq_true rfl) dJ30_or_101 rfl hq17 (Nat.le_refl _) (Nat.le_refl _) (c_J30_checkInvariants G l x0 h _ hw) (k_V (fun h19 hw => ?_))
  exact r_return C dJ30_or_104 (Nat.le_refl _) (Nat.le_refl _) ⟨rfl, hw⟩
theorem s_J30_or_47 {G : gT} {l : Launch} {V : Hp → Nat → Nat → Nat → List (Nat × Value) → List Value → Prop} {Q : Hp → Prop} (C : Cx G l V cJ30_or 4 RJ30 2 82 0 0 (pV Q) none (none) [] false) (LA47 : Hp → Nat → Nat → Int32 → Int32 → Prop) (hLA47 : ∀ (h : Hp) (x0 : Nat) (x1 : Nat) (x2 : Int32) (x3 : Int32), LA47 h x0 x1 x2 x3 → V h 0 0 47 [(0, .ref x0), (1, .ref x1), (2, .int x2), (3, .int x3)] []) (h : Hp) (x0 : Nat) (x1 : Nat) (x2 : Int32) (x3 : Int32) (hw : S_J30_or_47 Q LA47 h x0 x1 x2 x3) : V h 0 0 47 [(0, .ref x0), (1, .ref x1), (2, .int x2), (3, .int x3)] [] := by
  unfold S_J30_or_47 at hw
  refine r_iload_n C rfl 3 rfl dJ30_or_47 (r_iload_n C rfl 2 rfl dJ30_or_48 ?_)
  refine r_icmp_ge (tgt := 73) C (by decide) dJ30_or_49 (fun hc1 => ?_) (fun hc1 => ?_)
  · have hw := hw.1 hc1
    refine r_iload_n C rfl 2 rfl dJ30_or_73 (r_aload_n C rfl 1 rfl dJ30_or_74 ?_)
    refine r_gfI (k := 1) C kJ30 (by decide) (Or.inl q1405) (Or.inl rfl) dJ30_or_75 hw (fun v2 hw => ?_)
    refine r_icmp_ge (tgt := 100) C (by decide) dJ30_or_78 (fun hc3 => ?_) (fun hc3 => ?_)
    · have hw := hw.1 hc3
      exact r_sub C [0] rfl (b_J30_or_100 C _ _ hw)
    · have hw := hw.2 hc3
      refine r_aload_n C rfl 1 rfl dJ30_or_81 ?_
      refine r_gfR (k := 0) C kJ30 (by decide) (Or.inl q1404) (Or.inl rfl) dJ30_or_82 hw (fun v4 hw => ?_)
      refine r_iload_n C rfl 2 rfl dJ30_or_85 (r_aload_n C rfl 0 rfl dJ30_or_86 ?_)
      refine r_gfR (k := 0) C kJ30 (by decide) (Or.inl q1404) (Or.inl rfl) dJ30_or_87 hw (fun v5 hw => ?_)
      refine r_iload_n C rfl 2 rfl dJ30_or_90 (r_aload_n C rfl 0 rfl dJ30_or_91 ?_)
      refine r_gfI (k := 1) C kJ30 (by decide) (Or.inl q1405) (Or.inl rfl) dJ30_or_92 hw (fun v6 hw => ?_)
      refine r_iload_n C rfl 2 rfl dJ30_or_95 (r_isub C dJ30_or_96 ?_)
      obtain ⟨y7, rfl, hw_y7⟩ := hw
      have hw := hw_y7
      obtain ⟨y8, rfl, hw_y8⟩ := hw
      have hw := hw_y8
      refine r_cpL C ⟨q1527, q267, q266, q87⟩ (by decide) (by decide) dJ30_or_97 hw (fun h9 hw => ?_)
      exact r_sub C [0] rfl (b_J30_or_100 C _ _ hw)
  · have hw := hw.2 hc1
    refine r_aload_n C rfl 0 rfl dJ30_or_52 ?_
    refine r_gfR (k := 0) C kJ30 (by decide) (Or.inl q1404) (Or.inl rfl) dJ30_or_53 hw (fun v10 hw => ?_)
    refine r_iload_n C rfl 3 rfl dJ30_or_56 (r_dup2_11 C rfl (va_rf_cat _) dJ30_or_57 ?_)
    obtain ⟨y11, rfl, hw_y11⟩ := hw
    have hw := hw_y11
    refine r_laload C dJ30_or_58 hw (fun v12 hw => ?_)
    refine r_aload_n C rfl 1 rfl dJ30_or_59 ?_
    refine r_gfR (k := 0) C kJ30 (by decide) (Or.inl q1404) (Or.inl rfl) dJ30_or_60 hw (fun v13 hw => ?_)
    refine r_iload_n C rfl 3 rfl dJ30_or_63 ?_
    obtain ⟨y14, rfl, hw_y14⟩ := hw
    have hw := hw_y14
    refine r_laload C dJ30_or_64 hw (fun v15 hw => ?_)
    refine r_lor C dJ30_or_65 ?_
    refine r_lastore C dJ30_or_66 hw (fun h16 hw => ?_)
    refine r_iinc (v := x3 + (1 : Int32)) (L' := [(3, .int (x3 + (1 : Int32))), (0, .ref x0), (1, .ref x1), (2, .int x2)]) C (u := 3) rfl (by rfl) (by decide) rfl dJ30_or_67 (r_goto (tgt := 47) C (by decide) dJ30_or_70 ?_)
    exact r_sub C [1, 2, 3, 0] rfl (hLA47 _ _ _ _ _ hw)
theorem b_J30_or_47 {G : gT} {l : Launch} {V : Hp → Nat → Nat → Nat → List (Nat × Value) → List Value → Prop} {Q : Hp → Prop} (C : Cx G l V cJ30_or 4 RJ30 2 82 0 0 (pV Q) none (none) [] false) : ∀ (k : Nat) (h : Hp) (x0 : Nat) (x1 : Nat) (x2 : Int32) (x3 : Int32), B_J30_or_47 Q k h x0 x1 x2 x3 → V h 0 0 47 [(0, .ref x0), (1, .ref x1), (2, .int x2), (3, .int x3)] [] := by
  intro k
  induction k with
  | zero =>
    intro h x0 x1 x2 x3 hw
    exact hw.elim
  | succ k ih =>
    intro h x0 x1 x2 x3 hw
    exact s_J30_or_47 C _ (fun h x0 x1 x2 x3 hw => ih h x0 x1 x2 x3 hw) h x0 x1 x2 x3 hw
theorem b_J30_or_45 {G : gT} {l : Launch} {V : Hp → Nat → Nat → Nat → List (Nat × Value) → List Value → Prop} {Q : Hp → Prop} (C : Cx G l V cJ30_or 4 RJ30 2 82 0 0 (pV Q) none (none) [] false) (h : Hp) (x0 : Nat) (x1 : Nat) (x2 : Int32) (hw : B_J30_or_45 Q h x0 x1 x2) : V h 0 0 45 [(0, .ref x0), (1, .ref x1), (2, .int x2)] [] := by
  unfold B_J30_or_45 at hw
  refine r_iconst (v := (0 : Int32)) C (by decide) dJ30_or_45 (r_istore_n (L' := [(3, .int (0 : Int32)), (0, .ref x0), (1, .ref x1), (2, .int x2)]) C rfl (by decide) rfl dJ30_or_46 ?_)
  obtain ⟨k9, hw⟩ := hw
  exact r_sub C [1, 2, 3, 0] rfl (b_J30_or_47 C _ _ _ _ _ _ hw)
theorem sg_J30_or : ySg yJ30_or 1 = true := by decide +kernel
theorem c_J30_or (G : gT) (l : Launch) (a0 : Nat) (a1 : Nat) (h : Hp) (Q : Hp → Prop) (hw : w_J30_or a0 a1 h Q) : Ct G l yJ30_or (ws_ yJ30_or cJ30_or 4 (none)) 2 82 0 0 [.ref a0, .ref a1] h (pV Q) := by
  refine Ct.of (own := RJ30) false (by decide +kernel) rfl (show (_ : Nat) ≤ _ from Nat.le_of_ble_eq_true rfl) (fun z => by cases z) (fun V C => ?_)
  show V h 0 0 0 [(0, .ref a0), (1, .ref a1)] []
  unfold w_J30_or at hw
  refine r_aload_n C rfl 0 rfl dJ30_or_0 (r_aload_n C rfl 1 rfl dJ30_or_1 ?_)
  refine r_acmp_ne (x := some a0) (y := some a1) (tgt := 6) C (by decide) dJ30_or_2 (fun hc20 => ?_) (fun hc20 => ?_)
  · have hw := hw.1 hc20
    refine r_aload_n C rfl 0 rfl dJ30_or_6 ?_
    refine r_gfI (k := 1) C kJ30 (by decide) (Or.inl q1405) (Or.inl rfl) dJ30_or_7 hw (fun v21 hw => ?_)
    refine r_aload_n C rfl 1 rfl dJ30_or_10 ?_
    refine r_gfI (k := 1) C kJ30 (by decide) (Or.inl q1405) (Or.inl rfl) dJ30_or_11 hw (fun v22 hw => ?_)
    refine r_mmmin C q1526 q263 q85 q264 dJ30_or_14 (Nat.le_refl _) (Nat.le_refl _) ⟨Nat.le_of_ble_eq_true rfl, Nat.le_of_ble_eq_true rfl⟩ ?_
    refine r_istore_n (L' := [(2, .int (if v22 < v21 then v22 else v21)), (0, .ref a0), (1, .ref a1)]) C rfl (by decide) rfl dJ30_or_17 (r_aload_n C rfl 1 rfl dJ30_or_18 ?_)
    refine r_gfI (k := 1) C kJ30 (by decide) (Or.inl q1405) (Or.inl rfl) dJ30_or_19 hw (fun v23 hw => ?_)
    refine r_aload_n C rfl 2 rfl dJ30_or_22 ?_
    refine r_gfI (k := 1) C kJ30 (by decide) (Or.inl q1405) (Or.inl rfl) dJ30_or_23 hw (fun v24 hw => ?_)
    refine r_icmp_ge (tgt := 45) C (by decide) dJ30_or_26 (fun hc25 => ?_) (fun hc25 => ?_)
    · have hw := hw.1 hc25
      exact r_sub C [1, 2, 0] rfl (b_J30_or_45 C _ _ _ _ hw)
    · have hw := hw.2 hc25
      refine r_aload_n C rfl 1 rfl dJ30_or_29 (r_aload_n C rfl 2 rfl dJ30_or_30 ?_)
      refine r_gfI (k := 1) C kJ30 (by decide) (Or.inl q1405) (Or.inl rfl) dJ30_or_31 hw (fun v26 hw => ?_)
      obtain ⟨hq27, hw⟩ := hw
      refine r_callV (ci := 15) (rest := []) (As := [.int v26]) C sg_J30_ensureCapacity rfl rfl q1491 q1493 qs29 q116 q1494 rfl (Nat.le_of_ble_eq_true rfl) dJ30_or_34 rfl hq27 (Nat.le_refl _) (Nat.le_refl _) (c_J30_ensureCapacity G l a0 v26 h _ hw) (k_V (fun h29 hw => ?_))
      refine r_aload_n C rfl 1 rfl dJ30_or_37 (r_aload_n C rfl 2 rfl dJ30_or_38 ?_)
      refine r_gfI (k := 1) C kJ30 (by decide) (Or.inl q1405) (Or.inl rfl) dJ30_or_39 hw (fun v30 hw => ?_)
      refine r_pf (k := 1) (v := .int v30) C kJ30 (by decide) (Or.inl q1405) (Or.inl rfl) (Or.inl rfl) rfl rfl dJ30_or_42 hw (fun h31 hw => ?_)
      exact r_sub C [1, 2, 0] rfl (b_J30_or_45 C _ _ _ _ hw)
  · have hw := hw.2 hc20
    exact r_return C dJ30_or_5 (Nat.le_refl _) (Nat.le_refl _) ⟨rfl, hw⟩
def w_J30_set (a0 : Nat) (i1 : Int32) (h : Hp) (Q : Hp → Prop) : Prop :=
  (0 ≤ i1 → w_J30_wordIndex i1 h (fun r2 h3 => hasC h3 a0 15 ∧ (w_J30_expandTo a0 r2 h3 (fun h6 => gfR h6 a0 15 0 (fun v7 => nn v7 (fun y8 => rdL h6 y8 r2 (fun v9 => wrL h6 y8 r2 (v9 ||| ((1 : Int64) <<< (i1.toInt64 &&& 63))) (fun h10 => hasC h10 a0 15 ∧ (w_J30_checkInvariants a0 h10 (fun h13 => Q h13)))))))))) ∧ (¬ 0 ≤ i1 → False)
theorem sg_J30_set : ySg yJ30_set 1 = true := by decide +kernel
theorem c_J30_set (G : gT) (l : Launch) (a0 : Nat) (i1 : Int32) (h : Hp) (Q : Hp → Prop) (hw : w_J30_set a0 i1 h Q) : Ct G l yJ30_set (ws_ yJ30_set cJ30_set 3 (none)) 3 104 0 0 [.ref a0, .int i1] h (pV Q) := by
  refine Ct.of (own := RJ30) false (by decide +kernel) rfl (show (_ : Nat) ≤ _ from Nat.le_of_ble_eq_true rfl) (fun z => by cases z) (fun V C => ?_)
  show V h 0 0 0 [(0, .ref a0), (1, .int i1)] []
  unfold w_J30_set at hw
  refine r_iload_n C rfl 1 rfl dJ30_set_0 ?_
  refine r_if_ge (tgt := 31) C (by decide) dJ30_set_1 (fun hc1 => ?_) (fun hc1 => ?_)
  · have hw := hw.1 hc1
    refine r_iload_n C rfl 1 rfl dJ30_set_31 ?_
    refine r_callS (rest := []) (As := [.int i1]) C sg_J30_wordIndex q1401 q1402 q116 q1403 rfl (Nat.le_of_ble_eq_true rfl) dJ30_set_32 rfl (Nat.le_refl _) (Nat.le_refl _) (c_J30_wordIndex G l i1 h _ hw) (k_I (fun r2 h3 hw => ?_))
    refine r_istore_n (L' := [(2, .int r2), (0, .ref a0), (1, .int i1)]) C rfl (by decide) rfl dJ30_set_35 (r_aload_n C rfl 1 rfl dJ30_set_36 (r_iload_n C rfl 0 rfl dJ30_set_37 ?_))
    obtain ⟨hq4, hw⟩ := hw
    refine r_callV (ci := 15) (rest := []) (As := [.int r2]) C sg_J30_expandTo rfl rfl q1487 q1489 qs28 q116 q1490 rfl (Nat.le_of_ble_eq_true rfl) dJ30_set_38 rfl hq4 (Nat.le_refl _) (Nat.le_refl _) (c_J30_expandTo G l a0 r2 h3 _ hw) (k_V (fun h6 hw => ?_))
    refine r_aload_n C rfl 1 rfl dJ30_set_41 ?_
    refine r_gfR (k := 0) C kJ30 (by decide) (Or.inl q1404) (Or.inl rfl) dJ30_set_42 hw (fun v7 hw => ?_)
    refine r_iload_n C rfl 0 rfl dJ30_set_45 (r_dup2_11 C rfl (va_rf_cat _) dJ30_set_46 ?_)
    obtain ⟨y8, rfl, hw_y8⟩ := hw
    have hw := hw_y8
    refine r_laload C dJ30_set_47 hw (fun v9 hw => ?_)
    refine r_lconst (v := (1 : Int64)) C (by decide) dJ30_set_48 (r_iload_n C rfl 2 rfl dJ30_set_49 (r_lshl C dJ30_set_50 (r_lor C dJ30_set_51 ?_)))
    refine r_lastore C dJ30_set_52 hw (fun h10 hw => ?_)
    refine r_aload_n C rfl 1 rfl dJ30_set_53 ?_
    obtain ⟨hq11, hw⟩ := hw
    refine r_callV (ci := 15) (rest := []) (As := []) C sg_J30_checkInvariants rfl rfl q1504 q1506 qs30 q116 q1507 rfl (Nat.le_of_ble_eq_true rfl) dJ30_set_54 rfl hq11 (Nat.le_refl _) (Nat.le_refl _) (c_J30_checkInvariants G l a0 h10 _ hw) (k_V (fun h13 hw => ?_))
    exact r_return C dJ30_set_57 (Nat.le_refl _) (Nat.le_refl _) ⟨rfl, hw⟩
  · have hw := hw.2 hc1
    exact hw.elim
def w_J28_checkForComodification (a0 : Nat) (h : Hp) (Q : Hp → Prop) : Prop :=
  gfR h a0 14 4 (fun v1 => nn v1 (fun y2 => gfI h y2 9 0 (fun v3 => gfI h a0 14 3 (fun v4 => (v3 = v4 → Q h) ∧ (¬ v3 = v4 → False)))))
theorem sg_J28_checkForComodification : ySg yJ28_checkForComodification 0 = true := by decide +kernel
theorem c_J28_checkForComodification (G : gT) (l : Launch) (a0 : Nat) (h : Hp) (Q : Hp → Prop) (hw : w_J28_checkForComodification a0 h Q) : Ct G l yJ28_checkForComodification (ws_ yJ28_checkForComodification cJ28_checkForComodification 1 (none)) 1 12 0 0 [.ref a0] h (pV Q) := by
  refine Ct.of (own := RJ28) false (by decide +kernel) rfl (show (_ : Nat) ≤ _ from Nat.le_of_ble_eq_true rfl) (fun z => by cases z) (fun V C => ?_)
  show V h 0 0 0 [(0, .ref a0)] []
  unfold w_J28_checkForComodification at hw
  refine r_aload_n C rfl 0 rfl dJ28_checkForComodification_0 ?_
  refine r_gfR (k := 4) C kJ28 (by decide) (Or.inl q1147) (Or.inl rfl) dJ28_checkForComodification_1 hw (fun v1 hw => ?_)
  obtain ⟨y2, rfl, hw_y2⟩ := hw
  have hw := hw_y2
  refine r_gfI (k := 0) C kJ4 (by decide) (Or.inl q155) (Or.inr q156) dJ28_checkForComodification_4 hw (fun v3 hw => ?_)
  refine r_aload_n C rfl 0 rfl dJ28_checkForComodification_7 ?_
  refine r_gfI (k := 3) C kJ28 (by decide) (Or.inl q1146) (Or.inl rfl) dJ28_checkForComodification_8 hw (fun v4 hw => ?_)
  refine r_icmp_eq (tgt := 22) C (by decide) dJ28_checkForComodification_11 (fun hc5 => ?_) (fun hc5 => ?_)
  · have hw := hw.1 hc5
    exact r_return C dJ28_checkForComodification_22 (Nat.le_refl _) (Nat.le_refl _) ⟨rfl, hw⟩
  · have hw := hw.2 hc5
    exact hw.elim
def w_J28_hasNext (a0 : Nat) (h : Hp) (Q : Bool → Hp → Prop) : Prop :=
  gfI h a0 14 2 (fun v1 => gfR h a0 14 4 (fun v2 => nn v2 (fun y3 => gfI h y3 9 1 (fun v4 => Q (if v4 ≤ v1 then false else true) h))))
theorem sg_J28_hasNext : ySg yJ28_hasNext 0 = true := by decide +kernel
theorem c_J28_hasNext (G : gT) (l : Launch) (a0 : Nat) (h : Hp) (Q : Bool → Hp → Prop) (hw : w_J28_hasNext a0 h Q) : Ct G l yJ28_hasNext (ws_ yJ28_hasNext cJ28_hasNext 1 (some .boolean)) 1 12 0 0 [.ref a0] h (pZ Q) := by
  refine Ct.of (own := RJ28) false (by decide +kernel) rfl (show (_ : Nat) ≤ _ from Nat.le_of_ble_eq_true rfl) (fun z => by cases z) (fun V C => ?_)
  show V h 0 0 0 [(0, .ref a0)] []
  unfold w_J28_hasNext at hw
  refine r_aload_n C rfl 0 rfl dJ28_hasNext_0 ?_
  refine r_gfI (k := 2) C kJ28 (by decide) (Or.inl q1145) (Or.inl rfl) dJ28_hasNext_1 hw (fun v1 hw => ?_)
  refine r_aload_n C rfl 0 rfl dJ28_hasNext_4 ?_
  refine r_gfR (k := 4) C kJ28 (by decide) (Or.inl q1147) (Or.inl rfl) dJ28_hasNext_5 hw (fun v2 hw => ?_)
  obtain ⟨y3, rfl, hw_y3⟩ := hw
  have hw := hw_y3
  refine r_gfI (k := 1) C kJ4 (by decide) (Or.inl q179) (Or.inl rfl) dJ28_hasNext_8 hw (fun v4 hw => ?_)
  have hJ : V h 0 0 19 [] [.int (bI (if v4 ≤ v1 then false else true))] := by
    exact r_zreturn (x := (if v4 ≤ v1 then false else true)) C dJ28_hasNext_19 (Nat.le_refl _) (Nat.le_refl _) ⟨_, rfl, hw⟩
  refine r_icmp_ge (tgt := 18) C (by decide) dJ28_hasNext_11 (fun hc5 => ?_) (fun hc5 => ?_)
  · have hJ6 := hJ
    try simp only [if_pos hc5] at hJ6
    refine r_iconst (v := (0 : Int32)) C (by decide) dJ28_hasNext_18 ?_
    exact r_sub C [] rfl hJ6
  · have hJ6 := hJ
    try simp only [if_neg hc5] at hJ6
    refine r_iconst (v := (1 : Int32)) C (by decide) dJ28_hasNext_14 (r_goto (tgt := 19) C (by decide) dJ28_hasNext_15 ?_)
    exact r_sub C [] rfl hJ6
def w_J28_next (a0 : Nat) (h : Hp) (Q : Option Nat → Hp → Prop) : Prop :=
  hasC h a0 14 ∧ (w_J28_checkForComodification a0 h (fun h3 => hasC h3 a0 14 ∧ (w_J28_hasNext a0 h3 (fun r5 h6 => (r5 = true → gfR h6 a0 14 1 (fun v8 => pf h6 a0 14 0 (va_rf v8) (fun h9 => gfR h9 a0 14 1 (fun v10 => nn v10 (fun y11 => gfR h9 y11 10 1 (fun v12 => pf h9 a0 14 1 (va_rf v12) (fun h13 => gfI h13 a0 14 2 (fun v14 => pf h13 a0 14 2 (.int (v14 + (1 : Int32))) (fun h15 => gfR h15 a0 14 0 (fun v16 => nn v16 (fun y17 => gfR h15 y17 10 0 (fun v18 => Q v18 h15)))))))))))) ∧ (r5 = false → False)))))
theorem sg_J28_next : ySg yJ28_next 0 = true := by decide +kernel
theorem c_J28_next (G : gT) (l : Launch) (a0 : Nat) (h : Hp) (Q : Option Nat → Hp → Prop) (hw : w_J28_next a0 h Q) : Ct G l yJ28_next (ws_ yJ28_next cJ28_next 1 (some (.object "java/lang/Object"))) 2 32 0 0 [.ref a0] h (pR Q) := by
  refine Ct.of (own := RJ28) false (by decide +kernel) rfl (show (_ : Nat) ≤ _ from Nat.le_of_ble_eq_true rfl) (fun z => by cases z) (fun V C => ?_)
  show V h 0 0 0 [(0, .ref a0)] []
  unfold w_J28_next at hw
  refine r_aload_n C rfl 0 rfl dJ28_next_0 ?_
  obtain ⟨hq1, hw⟩ := hw
  refine r_callV (ci := 14) (rest := []) (As := []) C sg_J28_checkForComodification rfl rfl q1316 q1317 q1318 q114 q1319 rfl (Nat.le_of_ble_eq_true rfl) dJ28_next_1 rfl hq1 (Nat.le_refl _) (Nat.le_refl _) (c_J28_checkForComodification G l a0 h _ hw) (k_V (fun h3 hw => ?_))
  refine r_aload_n C rfl 0 rfl dJ28_next_4 ?_
  obtain ⟨hq4, hw⟩ := hw
  refine r_callV (ci := 14) (rest := []) (As := []) C sg_J28_hasNext rfl rfl q1320 q1194 q2648 q114 q1196 rfl (Nat.le_of_ble_eq_true rfl) dJ28_next_5 rfl hq4 (Nat.le_refl _) (Nat.le_refl _) (c_J28_hasNext G l a0 h3 _ hw) (k_Z (fun r5 h6 hw => ?_))
  refine r_if_ne_b (tgt := 19) C (by decide) dJ28_next_8 (fun hc7 => ?_) (fun hc7 => ?_)
  · have hw := hw.1 hc7
    refine r_aload_n C rfl 0 rfl dJ28_next_19 (r_aload_n C rfl 0 rfl dJ28_next_20 ?_)
    refine r_gfR (k := 1) C kJ28 (by decide) (Or.inl q1144) (Or.inl rfl) dJ28_next_21 hw (fun v8 hw => ?_)
    refine r_pf (k := 0) (v := va_rf v8) C kJ28 (by decide) (Or.inl q1143) (Or.inl rfl) (Or.inl rfl) (n_rfO _ _) (f_rfO _ _) dJ28_next_24 hw (fun h9 hw => ?_)
    refine r_aload_n C rfl 0 rfl dJ28_next_27 (r_aload_n C rfl 0 rfl dJ28_next_28 ?_)
    refine r_gfR (k := 1) C kJ28 (by decide) (Or.inl q1144) (Or.inl rfl) dJ28_next_29 hw (fun v10 hw => ?_)
    obtain ⟨y11, rfl, hw_y11⟩ := hw
    have hw := hw_y11
    refine r_gfR (k := 1) C kJ8 (by decide) (Or.inl q290) (Or.inl rfl) dJ28_next_32 hw (fun v12 hw => ?_)
    refine r_pf (k := 1) (v := va_rf v12) C kJ28 (by decide) (Or.inl q1144) (Or.inl rfl) (Or.inl rfl) (n_rfO _ _) (f_rfO _ _) dJ28_next_35 hw (fun h13 hw => ?_)
    refine r_aload_n C rfl 0 rfl dJ28_next_38 (r_dup C rfl dJ28_next_39 ?_)
    refine r_gfI (k := 2) C kJ28 (by decide) (Or.inl q1145) (Or.inl rfl) dJ28_next_40 hw (fun v14 hw => ?_)
    refine r_iconst (v := (1 : Int32)) C (by decide) dJ28_next_43 (r_iadd C dJ28_next_44 ?_)
    refine r_pf (k := 2) (v := .int (v14 + (1 : Int32))) C kJ28 (by decide) (Or.inl q1145) (Or.inl rfl) (Or.inl rfl) rfl rfl dJ28_next_45 hw (fun h15 hw => ?_)
    refine r_aload_n C rfl 0 rfl dJ28_next_48 ?_
    refine r_gfR (k := 0) C kJ28 (by decide) (Or.inl q1143) (Or.inl rfl) dJ28_next_49 hw (fun v16 hw => ?_)
    obtain ⟨y17, rfl, hw_y17⟩ := hw
    have hw := hw_y17
    refine r_gfR (k := 0) C kJ8 (by decide) (Or.inl q287) (Or.inl rfl) dJ28_next_52 hw (fun v18 hw => ?_)
    exact r_areturn (x := v18) C (by first | exact Or.inl ⟨_, rfl⟩ | exact Or.inr ⟨_, rfl⟩) dJ28_next_55 (Nat.le_refl _) (Nat.le_refl _) ⟨_, rfl, hw⟩
  · have hw := hw.2 hc7
    exact hw.elim
def B_J4_unlink_64 (Q : Option Nat → Hp → Prop) (h : Hp) (x0 : Nat) (x1 : Nat) (x2 : Option Nat) : Prop :=
  pf h x1 10 0 (va_rf none) (fun h6 => gfI h6 x0 9 1 (fun v7 => pf h6 x0 9 1 (.int (v7 - (1 : Int32))) (fun h8 => gfI h8 x0 9 0 (fun v9 => pf h8 x0 9 0 (.int (v9 + (1 : Int32))) (fun h10 => Q x2 h10)))))
def B_J4_unlink_40 (Q : Option Nat → Hp → Prop) (h : Hp) (x0 : Nat) (x1 : Nat) (x2 : Option Nat) (x3 : Option Nat) (x4 : Option Nat) : Prop :=
  (x3 = none → pf h x0 9 3 (va_rf x4) (fun h2 => B_J4_unlink_64 Q h2 x0 x1 x2)) ∧ (∀ y1 : Nat, x3 = some y1 → pf h y1 10 2 (va_rf x4) (fun h3 => pf h3 x1 10 1 (va_rf none) (fun h4 => B_J4_unlink_64 Q h4 x0 x1 x2)))
def w_J4_unlink (a0 : Nat) (a1 : Nat) (h : Hp) (Q : Option Nat → Hp → Prop) : Prop :=
  gfR h a1 10 0 (fun v11 => gfR h a1 10 1 (fun v12 => gfR h a1 10 2 (fun v13 => (v13 = none → pf h a0 9 2 (va_rf v12) (fun h15 => B_J4_unlink_40 Q h15 a0 a1 v11 v12 none)) ∧ (∀ y14 : Nat, v13 = some y14 → pf h y14 10 1 (va_rf v12) (fun h16 => pf h16 a1 10 2 (va_rf none) (fun h17 => B_J4_unlink_40 Q h17 a0 a1 v11 v12 (some y14)))))))
theorem b_J4_unlink_64 {G : gT} {l : Launch} {V : Hp → Nat → Nat → Nat → List (Nat × Value) → List Value → Prop} {Q : Option Nat → Hp → Prop} (C : Cx G l V cJ4_unlink 5 RJ4 1 12 0 0 (pR Q) none (some (.object "java/lang/Object")) [] false) (h : Hp) (x0 : Nat) (x1 : Nat) (x2 : Option Nat) (hw : B_J4_unlink_64 Q h x0 x1 x2) : V h 0 0 64 [(0, .ref x0), (1, .ref x1), (2, va_rf x2)] [] := by
  unfold B_J4_unlink_64 at hw
  refine r_aload_n C rfl 1 rfl dJ4_unlink_64 (r_null C dJ4_unlink_65 ?_)
  refine r_pf (k := 0) (v := va_rf none) C kJ8 (by decide) (Or.inl q288) (Or.inl rfl) (Or.inl rfl) (n_rfO _ _) (f_rfO _ _) dJ4_unlink_66 hw (fun h6 hw => ?_)
  refine r_aload_n C rfl 0 rfl dJ4_unlink_69 (r_dup C rfl dJ4_unlink_70 ?_)
  refine r_gfI (k := 1) C kJ4 (by decide) (Or.inl q178) (Or.inl rfl) dJ4_unlink_71 hw (fun v7 hw => ?_)
  refine r_iconst (v := (1 : Int32)) C (by decide) dJ4_unlink_74 (r_isub C dJ4_unlink_75 ?_)
  refine r_pf (k := 1) (v := .int (v7 - (1 : Int32))) C kJ4 (by decide) (Or.inl q178) (Or.inl rfl) (Or.inl rfl) rfl rfl dJ4_unlink_76 hw (fun h8 hw => ?_)
  refine r_aload_n C rfl 0 rfl dJ4_unlink_79 (r_dup C rfl dJ4_unlink_80 ?_)
  refine r_gfI (k := 0) C kJ4 (by decide) (Or.inl q160) (Or.inr q156) dJ4_unlink_81 hw (fun v9 hw => ?_)
  refine r_iconst (v := (1 : Int32)) C (by decide) dJ4_unlink_84 (r_iadd C dJ4_unlink_85 ?_)
  refine r_pf (k := 0) (v := .int (v9 + (1 : Int32))) C kJ4 (by decide) (Or.inl q160) (Or.inr q156) (Or.inl rfl) rfl rfl dJ4_unlink_86 hw (fun h10 hw => ?_)
  refine r_aload_nO C rfl 2 rfl dJ4_unlink_89 ?_
  exact r_areturn (x := x2) C (by first | exact Or.inl ⟨_, rfl⟩ | exact Or.inr ⟨_, rfl⟩) dJ4_unlink_90 (Nat.le_refl _) (Nat.le_refl _) ⟨_, rfl, hw⟩
theorem b_J4_unlink_40 {G : gT} {l : Launch} {V : Hp → Nat → Nat → Nat → List (Nat × Value) → List Value → Prop} {Q : Option Nat → Hp → Prop} (C : Cx G l V cJ4_unlink 5 RJ4 1 12 0 0 (pR Q) none (some (.object "java/lang/Object")) [] false) (h : Hp) (x0 : Nat) (x1 : Nat) (x2 : Option Nat) (x3 : Option Nat) (x4 : Option Nat) (hw : B_J4_unlink_40 Q h x0 x1 x2 x3 x4) : V h 0 0 40 [(0, .ref x0), (1, .ref x1), (2, va_rf x2), (3, va_rf x3), (4, va_rf x4)] [] := by
  unfold B_J4_unlink_40 at hw
  refine r_aload_nO C rfl 3 rfl dJ4_unlink_40 ?_
  refine r_ifnonnull (x := x3) (tgt := 53) C (by decide) dJ4_unlink_41 (fun y1 hc5 => ?_) (fun hc5 => ?_)
  · have hw_y1 := hw.2 y1 hc5
    subst hc5
    have hw := hw_y1
    refine r_aload_n C rfl 3 rfl dJ4_unlink_53 (r_aloadO C 4 rfl dJ4_unlink_54 ?_)
    refine r_pf (k := 2) (v := va_rf x4) C kJ8 (by decide) (Or.inl q293) (Or.inl rfl) (Or.inl rfl) (n_rfO _ _) (f_rfO _ _) dJ4_unlink_56 hw (fun h3 hw => ?_)
    refine r_aload_n C rfl 1 rfl dJ4_unlink_59 (r_null C dJ4_unlink_60 ?_)
    refine r_pf (k := 1) (v := va_rf none) C kJ8 (by decide) (Or.inl q291) (Or.inl rfl) (Or.inl rfl) (n_rfO _ _) (f_rfO _ _) dJ4_unlink_61 hw (fun h4 hw => ?_)
    exact r_sub C [0, 1, 2] rfl (b_J4_unlink_64 C _ _ _ _ hw)
  · have hw_y1 := hw.1 hc5
    subst hc5
    have hw := hw_y1
    refine r_aload_n C rfl 0 rfl dJ4_unlink_44 (r_aloadO C 4 rfl dJ4_unlink_45 ?_)
    refine r_pf (k := 3) (v := va_rf x4) C kJ4 (by decide) (Or.inl q181) (Or.inl rfl) (Or.inl rfl) (n_rfO _ _) (f_rfO _ _) dJ4_unlink_47 hw (fun h2 hw => ?_)
    refine r_goto (tgt := 64) C (by decide) dJ4_unlink_50 ?_
    exact r_sub C [0, 1, 2] rfl (b_J4_unlink_64 C _ _ _ _ hw)
theorem sg_J4_unlink : ySg yJ4_unlink 1 = true := by decide +kernel
theorem c_J4_unlink (G : gT) (l : Launch) (a0 : Nat) (a1 : Nat) (h : Hp) (Q : Option Nat → Hp → Prop) (hw : w_J4_unlink a0 a1 h Q) : Ct G l yJ4_unlink (ws_ yJ4_unlink cJ4_unlink 5 (some (.object "java/lang/Object"))) 1 12 0 0 [.ref a0, .ref a1] h (pR Q) := by
  refine Ct.of (own := RJ4) false (by decide +kernel) rfl (show (_ : Nat) ≤ _ from Nat.le_of_ble_eq_true rfl) (fun z => by cases z) (fun V C => ?_)
  show V h 0 0 0 [(0, .ref a0), (1, .ref a1)] []
  unfold w_J4_unlink at hw
  refine r_aload_n C rfl 1 rfl dJ4_unlink_0 ?_
  refine r_gfR (k := 0) C kJ8 (by decide) (Or.inl q288) (Or.inl rfl) dJ4_unlink_1 hw (fun v11 hw => ?_)
  refine r_astore_nO (x := v11) (L' := [(2, va_rf v11), (0, .ref a0), (1, .ref a1)]) C rfl (by decide) rfl dJ4_unlink_4 (r_aload_n C rfl 2 rfl dJ4_unlink_5 ?_)
  refine r_gfR (k := 1) C kJ8 (by decide) (Or.inl q291) (Or.inl rfl) dJ4_unlink_6 hw (fun v12 hw => ?_)
  refine r_astore_nO (x := v12) (L' := [(3, va_rf v12), (2, va_rf v11), (0, .ref a0), (1, .ref a1)]) C rfl (by decide) (by rcases v11 with _ | _ <;> rfl) dJ4_unlink_9 (r_aload_n C rfl 3 rfl dJ4_unlink_10 ?_)
  refine r_gfR (k := 2) C kJ8 (by decide) (Or.inl q293) (Or.inl rfl) dJ4_unlink_11 hw (fun v13 hw => ?_)
  refine r_astoreO (x := v13) (L' := [(4, va_rf v13), (3, va_rf v12), (2, va_rf v11), (0, .ref a0), (1, .ref a1)]) C (by decide) (by rcases v12 with _ | _ <;> rfl) dJ4_unlink_14 (r_aloadO C 0 rfl dJ4_unlink_16 ?_)
  refine r_ifnonnull (x := v13) (tgt := 29) C (by decide) dJ4_unlink_18 (fun y14 hc18 => ?_) (fun hc18 => ?_)
  · have hw_y14 := hw.2 y14 hc18
    subst hc18
    have hw := hw_y14
    refine r_aload C 0 rfl dJ4_unlink_29 (r_aload_nO C rfl 1 rfl dJ4_unlink_31 ?_)
    refine r_pf (k := 1) (v := va_rf v12) C kJ8 (by decide) (Or.inl q291) (Or.inl rfl) (Or.inl rfl) (n_rfO _ _) (f_rfO _ _) dJ4_unlink_32 hw (fun h16 hw => ?_)
    refine r_aload_n C rfl 4 rfl dJ4_unlink_35 (r_null C dJ4_unlink_36 ?_)
    refine r_pf (k := 2) (v := va_rf none) C kJ8 (by decide) (Or.inl q293) (Or.inl rfl) (Or.inl rfl) (n_rfO _ _) (f_rfO _ _) dJ4_unlink_37 hw (fun h17 hw => ?_)
    exact r_sub C [3, 4, 2, 1, 0] rfl (b_J4_unlink_40 C _ _ _ _ _ _ hw)
  · have hw_y14 := hw.1 hc18
    subst hc18
    have hw := hw_y14
    refine r_aload_n C rfl 3 rfl dJ4_unlink_21 (r_aload_nO C rfl 1 rfl dJ4_unlink_22 ?_)
    refine r_pf (k := 2) (v := va_rf v12) C kJ4 (by decide) (Or.inl q180) (Or.inl rfl) (Or.inl rfl) (n_rfO _ _) (f_rfO _ _) dJ4_unlink_23 hw (fun h15 hw => ?_)
    refine r_goto (tgt := 40) C (by decide) dJ4_unlink_26 ?_
    exact r_sub C [3, 4, 2, 1, 0] rfl (b_J4_unlink_40 C _ _ _ _ _ _ hw)
def B_J28_remove_68 (Q : Hp → Prop) (h : Hp) (x0 : Nat) : Prop :=
  pf h x0 14 0 (va_rf none) (fun h1 => gfI h1 x0 14 3 (fun v2 => pf h1 x0 14 3 (.int (v2 + (1 : Int32))) (fun h3 => Q h3)))
def w_J28_remove (a0 : Nat) (h : Hp) (Q : Hp → Prop) : Prop :=
  hasC h a0 14 ∧ (w_J28_checkForComodification a0 h (fun h6 => gfR h6 a0 14 0 (fun v7 => (v7 = none → False) ∧ (∀ y8 : Nat, v7 = some y8 → gfR h6 a0 14 0 (fun v9 => nn v9 (fun y10 => gfR h6 y10 10 1 (fun v11 => gfR h6 a0 14 4 (fun v12 => gfR h6 a0 14 0 (fun v13 => nn v12 (fun y14 => nn v13 (fun y15 => hasC h6 y14 9 ∧ (w_J4_unlink y14 y15 h6 (fun r17 h18 => gfR h18 a0 14 1 (fun v19 => gfR h18 a0 14 0 (fun v20 => (¬ v19 = v20 → gfI h18 a0 14 2 (fun v22 => pf h18 a0 14 2 (.int (v22 - (1 : Int32))) (fun h23 => B_J28_remove_68 Q h23 a0))) ∧ (v19 = v20 → pf h18 a0 14 1 (va_rf v11) (fun h24 => B_J28_remove_68 Q h24 a0)))))))))))))))))
theorem b_J28_remove_68 {G : gT} {l : Launch} {V : Hp → Nat → Nat → Nat → List (Nat × Value) → List Value → Prop} {Q : Hp → Prop} (C : Cx G l V cJ28_remove 2 RJ28 2 36 0 0 (pV Q) none (none) [] false) (h : Hp) (x0 : Nat) (hw : B_J28_remove_68 Q h x0) : V h 0 0 68 [(0, .ref x0)] [] := by
  unfold B_J28_remove_68 at hw
  refine r_aload_n C rfl 0 rfl dJ28_remove_68 (r_null C dJ28_remove_69 ?_)
  refine r_pf (k := 0) (v := va_rf none) C kJ28 (by decide) (Or.inl q1143) (Or.inl rfl) (Or.inl rfl) (n_rfO _ _) (f_rfO _ _) dJ28_remove_70 hw (fun h1 hw => ?_)
  refine r_aload_n C rfl 0 rfl dJ28_remove_73 (r_dup C rfl dJ28_remove_74 ?_)
  refine r_gfI (k := 3) C kJ28 (by decide) (Or.inl q1146) (Or.inl rfl) dJ28_remove_75 hw (fun v2 hw => ?_)
  refine r_iconst (v := (1 : Int32)) C (by decide) dJ28_remove_78 (r_iadd C dJ28_remove_79 ?_)
  refine r_pf (k := 3) (v := .int (v2 + (1 : Int32))) C kJ28 (by decide) (Or.inl q1146) (Or.inl rfl) (Or.inl rfl) rfl rfl dJ28_remove_80 hw (fun h3 hw => ?_)
  exact r_return C dJ28_remove_83 (Nat.le_refl _) (Nat.le_refl _) ⟨rfl, hw⟩
theorem sg_J28_remove : ySg yJ28_remove 0 = true := by decide +kernel
theorem c_J28_remove (G : gT) (l : Launch) (a0 : Nat) (h : Hp) (Q : Hp → Prop) (hw : w_J28_remove a0 h Q) : Ct G l yJ28_remove (ws_ yJ28_remove cJ28_remove 2 (none)) 2 36 0 0 [.ref a0] h (pV Q) := by
  refine Ct.of (own := RJ28) false (by decide +kernel) rfl (show (_ : Nat) ≤ _ from Nat.le_of_ble_eq_true rfl) (fun z => by cases z) (fun V C => ?_)
  show V h 0 0 0 [(0, .ref a0)] []
  unfold w_J28_remove at hw
  refine r_aload_n C rfl 0 rfl dJ28_remove_0 ?_
  obtain ⟨hq4, hw⟩ := hw
  refine r_callV (ci := 14) (rest := []) (As := []) C sg_J28_checkForComodification rfl rfl q1316 q1317 q1318 q114 q1319 rfl (Nat.le_of_ble_eq_true rfl) dJ28_remove_1 rfl hq4 (Nat.le_refl _) (Nat.le_refl _) (c_J28_checkForComodification G l a0 h _ hw) (k_V (fun h6 hw => ?_))
  refine r_aload_n C rfl 0 rfl dJ28_remove_4 ?_
  refine r_gfR (k := 0) C kJ28 (by decide) (Or.inl q1143) (Or.inl rfl) dJ28_remove_5 hw (fun v7 hw => ?_)
  refine r_ifnonnull (x := v7) (tgt := 19) C (by decide) dJ28_remove_8 (fun y8 hc25 => ?_) (fun hc25 => ?_)
  · have hw_y8 := hw.2 y8 hc25
    subst hc25
    have hw := hw_y8
    refine r_aload_n C rfl 0 rfl dJ28_remove_19 ?_
    refine r_gfR (k := 0) C kJ28 (by decide) (Or.inl q1143) (Or.inl rfl) dJ28_remove_20 hw (fun v9 hw => ?_)
    obtain ⟨y10, rfl, hw_y10⟩ := hw
    have hw := hw_y10
    refine r_gfR (k := 1) C kJ8 (by decide) (Or.inl q290) (Or.inl rfl) dJ28_remove_23 hw (fun v11 hw => ?_)
    refine r_astore_nO (x := v11) (L' := [(1, va_rf v11), (0, .ref a0)]) C rfl (by decide) rfl dJ28_remove_26 (r_aload_n C rfl 1 rfl dJ28_remove_27 ?_)
    refine r_gfR (k := 4) C kJ28 (by decide) (Or.inl q1147) (Or.inl rfl) dJ28_remove_28 hw (fun v12 hw => ?_)
    refine r_aload_n C rfl 1 rfl dJ28_remove_31 ?_
    refine r_gfR (k := 0) C kJ28 (by decide) (Or.inl q1143) (Or.inl rfl) dJ28_remove_32 hw (fun v13 hw => ?_)
    obtain ⟨y14, rfl, hw_y14⟩ := hw
    have hw := hw_y14
    obtain ⟨y15, rfl, hw_y15⟩ := hw
    have hw := hw_y15
    obtain ⟨hq16, hw⟩ := hw
    refine r_callV (ci := 9) (rest := []) (As := [.ref y15]) C sg_J4_unlink rfl rfl q1986 q1948 q1949 q83 q1950 rfl (Nat.le_of_ble_eq_true rfl) dJ28_remove_35 rfl hq16 (Nat.le_refl _) (Nat.le_refl _) (c_J4_unlink G l y14 y15 h6 _ hw) (k_R (fun r17 h18 hw => ?_))
    refine r_pop C (va_rf_cat _) dJ28_remove_38 (r_aload_n C rfl 1 rfl dJ28_remove_39 ?_)
    refine r_gfR (k := 1) C kJ28 (by decide) (Or.inl q1144) (Or.inl rfl) dJ28_remove_40 hw (fun v19 hw => ?_)
    refine r_aload_n C rfl 1 rfl dJ28_remove_43 ?_
    refine r_gfR (k := 0) C kJ28 (by decide) (Or.inl q1143) (Or.inl rfl) dJ28_remove_44 hw (fun v20 hw => ?_)
    refine r_acmp_ne (x := v19) (y := v20) (tgt := 58) C (by decide) dJ28_remove_47 (fun hc21 => ?_) (fun hc21 => ?_)
    · have hw := hw.1 hc21
      refine r_aload_n C rfl 1 rfl dJ28_remove_58 (r_dup C rfl dJ28_remove_59 ?_)
      refine r_gfI (k := 2) C kJ28 (by decide) (Or.inl q1145) (Or.inl rfl) dJ28_remove_60 hw (fun v22 hw => ?_)
      refine r_iconst (v := (1 : Int32)) C (by decide) dJ28_remove_63 (r_isub C dJ28_remove_64 ?_)
      refine r_pf (k := 2) (v := .int (v22 - (1 : Int32))) C kJ28 (by decide) (Or.inl q1145) (Or.inl rfl) (Or.inl rfl) rfl rfl dJ28_remove_65 hw (fun h23 hw => ?_)
      exact r_sub C [1] rfl (b_J28_remove_68 C _ _ hw)
    · have hw := hw.2 hc21
      refine r_aload_n C rfl 1 rfl dJ28_remove_50 (r_aload_nO C rfl 0 rfl dJ28_remove_51 ?_)
      refine r_pf (k := 1) (v := va_rf v11) C kJ28 (by decide) (Or.inl q1144) (Or.inl rfl) (Or.inl rfl) (n_rfO _ _) (f_rfO _ _) dJ28_remove_52 hw (fun h24 hw => ?_)
      refine r_goto (tgt := 68) C (by decide) dJ28_remove_55 ?_
      exact r_sub C [1] rfl (b_J28_remove_68 C _ _ hw)
  · have hw_y8 := hw.1 hc25
    subst hc25
    have hw := hw_y8
    exact hw.elim
def w_J8_init (a0 : Nat) (o1 : Option Nat) (a2 : Nat) (o3 : Option Nat) (h : Hp) (Q : Hp → Prop) : Prop :=
  pf h a0 10 0 (.ref a2) (fun h1 => pf h1 a0 10 1 (va_rf o3) (fun h2 => pf h2 a0 10 2 (va_rf o1) (fun h3 => Q h3)))
theorem sg_J8_init : ySg yJ8_init 3 = true := by decide +kernel
theorem c_J8_init (G : gT) (l : Launch) (a0 : Nat) (o1 : Option Nat) (a2 : Nat) (o3 : Option Nat) (h : Hp) (Q : Hp → Prop) (hw : w_J8_init a0 o1 a2 o3 h Q) : Ct G l yJ8_init (ws_ yJ8_init cJ8_init 4 (none)) 1 12 0 0 [.ref a0, va_rf o1, .ref a2, va_rf o3] h (pV Q) := by
  refine Ct.of (own := RJ8) true (by decide +kernel) rfl (by rcases o1 with _ | _ <;> rcases o3 with _ | _ <;> exact (show (_ : Nat) ≤ _ from Nat.le_of_ble_eq_true rfl)) (fun _ => rfl) (fun V C => ?_)
  rw [show lv_args 0 [.ref a0, va_rf o1, .ref a2, va_rf o3] = [(0, .ref a0), (1, va_rf o1), (2, .ref a2), (3, va_rf o3)] from by rcases o1 with _ | _ <;> rcases o3 with _ | _ <;> rfl]
  unfold w_J8_init at hw
  refine r_aload_n C rfl 0 rfl dJ8_init_0 ?_
  refine r_objInit C q285 q128 q129 (by decide) (by decide) dJ8_init_1 ?_
  refine r_aload_n C rfl 0 rfl dJ8_init_4 (r_aload_n C rfl 2 rfl dJ8_init_5 ?_)
  refine r_pf (k := 0) (v := .ref a2) C kJ8 (by decide) (Or.inl q286) (Or.inl rfl) (Or.inl rfl) rfl rfl dJ8_init_6 hw (fun h1 hw => ?_)
  refine r_aload_n C rfl 0 rfl dJ8_init_9 (r_aload_nO C rfl 3 rfl dJ8_init_10 ?_)
  refine r_pf (k := 1) (v := va_rf o3) C kJ8 (by decide) (Or.inl q289) (Or.inl rfl) (Or.inl rfl) (n_rfO _ _) (f_rfO _ _) dJ8_init_11 hw (fun h2 hw => ?_)
  refine r_aload_n C rfl 0 rfl dJ8_init_14 (r_aload_nO C rfl 1 rfl dJ8_init_15 ?_)
  refine r_pf (k := 2) (v := va_rf o1) C kJ8 (by decide) (Or.inl q292) (Or.inl rfl) (Or.inl rfl) (n_rfO _ _) (f_rfO _ _) dJ8_init_16 hw (fun h3 hw => ?_)
  exact r_return C dJ8_init_19 (Nat.le_refl _) (Nat.le_refl _) ⟨rfl, hw⟩
def w_J4_init (a0 : Nat) (h : Hp) (Q : Hp → Prop) : Prop :=
  w_J3_init a0 h (fun h2 => pf h2 a0 9 1 (.int (0 : Int32)) (fun h3 => Q h3))
theorem sg_J4_init : ySg yJ4_init 0 = true := by decide +kernel
theorem c_J4_init (G : gT) (l : Launch) (a0 : Nat) (h : Hp) (Q : Hp → Prop) (hw : w_J4_init a0 h Q) : Ct G l yJ4_init (ws_ yJ4_init cJ4_init 1 (none)) 4 72 0 0 [.ref a0] h (pV Q) := by
  refine Ct.of (own := RJ4) true (by decide +kernel) rfl (show (_ : Nat) ≤ _ from Nat.le_of_ble_eq_true rfl) (fun _ => rfl) (fun V C => ?_)
  show V h 0 0 0 [(0, .ref a0)] []
  unfold w_J4_init at hw
  refine r_aload_n C rfl 0 rfl dJ4_init_0 ?_
  refine r_callI (rest := []) (As := []) C sg_J3_init rfl q174 q175 q82 q176 rfl (Nat.le_of_ble_eq_true rfl) dJ4_init_1 rfl (Nat.le_refl _) (Nat.le_refl _) (c_J3_init G l a0 h _ hw) (k_V (fun h2 hw => ?_))
  refine r_aload_n C rfl 0 rfl dJ4_init_4 (r_iconst (v := (0 : Int32)) C (by decide) dJ4_init_5 ?_)
  refine r_pf (k := 1) (v := .int (0 : Int32)) C kJ4 (by decide) (Or.inl q178) (Or.inl rfl) (Or.inl rfl) rfl rfl dJ4_init_6 hw (fun h3 hw => ?_)
  exact r_return C dJ4_init_9 (Nat.le_refl _) (Nat.le_refl _) ⟨rfl, hw⟩
def B_J4_linkLast_38 (mc ms : Nat) (Q : Hp → Prop) (h : Hp) (c : Nat) (n : Nat) (x0 : Nat) : Prop :=
  gfI h x0 9 1 (fun v1 => pf h x0 9 1 (.int (v1 + (1 : Int32))) (fun h2 => gfI h2 x0 9 0 (fun v3 => pf h2 x0 9 0 (.int (v3 + (1 : Int32))) (fun h4 => Q h4))))
def w_J4_linkLast (mc ms : Nat) (a0 : Nat) (a1 : Nat) (h : Hp) (Q : Hp → Prop) : Prop :=
  gfR h a0 9 3 (fun v5 => 0 + 1 ≤ mc ∧ 0 + 3 ≤ ms ∧ (nwO h 10 [.null, .null, .null] (fun q8 h9 => w_J8_init q8 v5 a1 none h9 (fun h11 => pf h11 a0 9 3 (.ref q8) (fun h12 => (v5 = none → pf h12 a0 9 2 (.ref q8) (fun h14 => B_J4_linkLast_38 mc ms Q h14 (0 + 1) (0 + 3) a0)) ∧ (∀ y13 : Nat, v5 = some y13 → pf h12 y13 10 1 (.ref q8) (fun h15 => B_J4_linkLast_38 mc ms Q h15 (0 + 1) (0 + 3) a0)))))))
theorem b_J4_linkLast_38 {G : gT} {l : Launch} {V : Hp → Nat → Nat → Nat → List (Nat × Value) → List Value → Prop} {mc ms : Nat} {Q : Hp → Prop} (C : Cx G l V cJ4_linkLast 4 RJ4 2 35 mc ms (pV Q) none (none) [] false) (h : Hp) (c : Nat) (n : Nat) (x0 : Nat) (b1 : c ≤ mc) (b2 : n ≤ ms) (hw : B_J4_linkLast_38 mc ms Q h c n x0) : V h c n 38 [(0, .ref x0)] [] := by
  unfold B_J4_linkLast_38 at hw
  refine r_aload_n C rfl 0 rfl dJ4_linkLast_38 (r_dup C rfl dJ4_linkLast_39 ?_)
  refine r_gfI (k := 1) C kJ4 (by decide) (Or.inl q178) (Or.inl rfl) dJ4_linkLast_40 hw (fun v1 hw => ?_)
  refine r_iconst (v := (1 : Int32)) C (by decide) dJ4_linkLast_43 (r_iadd C dJ4_linkLast_44 ?_)
  refine r_pf (k := 1) (v := .int (v1 + (1 : Int32))) C kJ4 (by decide) (Or.inl q178) (Or.inl rfl) (Or.inl rfl) rfl rfl dJ4_linkLast_45 hw (fun h2 hw => ?_)
  refine r_aload_n C rfl 0 rfl dJ4_linkLast_48 (r_dup C rfl dJ4_linkLast_49 ?_)
  refine r_gfI (k := 0) C kJ4 (by decide) (Or.inl q160) (Or.inr q156) dJ4_linkLast_50 hw (fun v3 hw => ?_)
  refine r_iconst (v := (1 : Int32)) C (by decide) dJ4_linkLast_53 (r_iadd C dJ4_linkLast_54 ?_)
  refine r_pf (k := 0) (v := .int (v3 + (1 : Int32))) C kJ4 (by decide) (Or.inl q160) (Or.inr q156) (Or.inl rfl) rfl rfl dJ4_linkLast_55 hw (fun h4 hw => ?_)
  exact r_return C dJ4_linkLast_58 b1 b2 ⟨rfl, hw⟩
theorem sg_J4_linkLast : ySg yJ4_linkLast 1 = true := by decide +kernel
theorem c_J4_linkLast (G : gT) (l : Launch) (mc ms : Nat) (a0 : Nat) (a1 : Nat) (h : Hp) (Q : Hp → Prop) (hw : w_J4_linkLast mc ms a0 a1 h Q) : Ct G l yJ4_linkLast (ws_ yJ4_linkLast cJ4_linkLast 4 (none)) 2 35 mc ms [.ref a0, .ref a1] h (pV Q) := by
  refine Ct.of (own := RJ4) false (by decide +kernel) rfl (show (_ : Nat) ≤ _ from Nat.le_of_ble_eq_true rfl) (fun z => by cases z) (fun V C => ?_)
  show V h 0 0 0 [(0, .ref a0), (1, .ref a1)] []
  unfold w_J4_linkLast at hw
  refine r_aload_n C rfl 0 rfl dJ4_linkLast_0 ?_
  refine r_gfR (k := 3) C kJ4 (by decide) (Or.inl q181) (Or.inl rfl) dJ4_linkLast_1 hw (fun v5 hw => ?_)
  refine r_astore_nO (x := v5) (L' := [(2, va_rf v5), (0, .ref a0), (1, .ref a1)]) C rfl (by decide) rfl dJ4_linkLast_4 ?_
  obtain ⟨hp6, hp7, hw⟩ := hw
  refine r_new C kJ8 q280 q281 q88 df_10 dJ4_linkLast_5 hp6 hp7 hw (fun q8 h9 hw => ?_)
  refine r_dup C rfl dJ4_linkLast_8 (r_aload_nO C rfl 0 rfl dJ4_linkLast_9 (r_aload_n C rfl 2 rfl dJ4_linkLast_10 (r_null C dJ4_linkLast_11 ?_)))
  refine r_callI (rest := [.ref q8]) (As := [va_rf v5, .ref a1, va_rf none]) C sg_J8_init rfl q282 q283 q88 q284 rfl (Nat.le_of_ble_eq_true rfl) dJ4_linkLast_12 rfl hp6 hp7 (c_J8_init G l q8 v5 a1 none h9 _ hw) (k_V (fun h11 hw => ?_))
  refine r_astore_n (L' := [(3, .ref q8), (2, va_rf v5), (0, .ref a0), (1, .ref a1)]) C rfl (by decide) (by rcases v5 with _ | _ <;> rfl) dJ4_linkLast_15 (r_aload_n C rfl 2 rfl dJ4_linkLast_16 (r_aload_n C rfl 0 rfl dJ4_linkLast_17 ?_))
  refine r_pf (k := 3) (v := .ref q8) C kJ4 (by decide) (Or.inl q181) (Or.inl rfl) (Or.inl rfl) rfl rfl dJ4_linkLast_18 hw (fun h12 hw => ?_)
  refine r_aload_nO C rfl 1 rfl dJ4_linkLast_21 ?_
  refine r_ifnonnull (x := v5) (tgt := 33) C (by decide) dJ4_linkLast_22 (fun y13 hc16 => ?_) (fun hc16 => ?_)
  · have hw_y13 := hw.2 y13 hc16
    subst hc16
    have hw := hw_y13
    refine r_aload_n C rfl 1 rfl dJ4_linkLast_33 (r_aload_n C rfl 0 rfl dJ4_linkLast_34 ?_)
    refine r_pf (k := 1) (v := .ref q8) C kJ8 (by decide) (Or.inl q291) (Or.inl rfl) (Or.inl rfl) rfl rfl dJ4_linkLast_35 hw (fun h15 hw => ?_)
    exact r_sub C [2] rfl (b_J4_linkLast_38 C _ _ _ _ hp6 hp7 hw)
  · have hw_y13 := hw.1 hc16
    subst hc16
    have hw := hw_y13
    refine r_aload_n C rfl 2 rfl dJ4_linkLast_25 (r_aload_n C rfl 0 rfl dJ4_linkLast_26 ?_)
    refine r_pf (k := 2) (v := .ref q8) C kJ4 (by decide) (Or.inl q180) (Or.inl rfl) (Or.inl rfl) rfl rfl dJ4_linkLast_27 hw (fun h14 hw => ?_)
    refine r_goto (tgt := 38) C (by decide) dJ4_linkLast_30 ?_
    exact r_sub C [2] rfl (b_J4_linkLast_38 C _ _ _ _ hp6 hp7 hw)
def B_J4_linkBefore_42 (mc ms : Nat) (Q : Hp → Prop) (h : Hp) (c : Nat) (n : Nat) (x0 : Nat) : Prop :=
  gfI h x0 9 1 (fun v1 => pf h x0 9 1 (.int (v1 + (1 : Int32))) (fun h2 => gfI h2 x0 9 0 (fun v3 => pf h2 x0 9 0 (.int (v3 + (1 : Int32))) (fun h4 => Q h4))))
def w_J4_linkBefore (mc ms : Nat) (a0 : Nat) (a1 : Nat) (a2 : Nat) (h : Hp) (Q : Hp → Prop) : Prop :=
  gfR h a2 10 2 (fun v5 => 0 + 1 ≤ mc ∧ 0 + 3 ≤ ms ∧ (nwO h 10 [.null, .null, .null] (fun q8 h9 => w_J8_init q8 v5 a1 (some a2) h9 (fun h11 => pf h11 a2 10 2 (.ref q8) (fun h12 => (v5 = none → pf h12 a0 9 2 (.ref q8) (fun h14 => B_J4_linkBefore_42 mc ms Q h14 (0 + 1) (0 + 3) a0)) ∧ (∀ y13 : Nat, v5 = some y13 → pf h12 y13 10 1 (.ref q8) (fun h15 => B_J4_linkBefore_42 mc ms Q h15 (0 + 1) (0 + 3) a0)))))))
theorem b_J4_linkBefore_42 {G : gT} {l : Launch} {V : Hp → Nat → Nat → Nat → List (Nat × Value) → List Value → Prop} {mc ms : Nat} {Q : Hp → Prop} (C : Cx G l V cJ4_linkBefore 5 RJ4 2 35 mc ms (pV Q) none (none) [] false) (h : Hp) (c : Nat) (n : Nat) (x0 : Nat) (b1 : c ≤ mc) (b2 : n ≤ ms) (hw : B_J4_linkBefore_42 mc ms Q h c n x0) : V h c n 42 [(0, .ref x0)] [] := by
  unfold B_J4_linkBefore_42 at hw
  refine r_aload_n C rfl 0 rfl dJ4_linkBefore_42 (r_dup C rfl dJ4_linkBefore_43 ?_)
  refine r_gfI (k := 1) C kJ4 (by decide) (Or.inl q178) (Or.inl rfl) dJ4_linkBefore_44 hw (fun v1 hw => ?_)
  refine r_iconst (v := (1 : Int32)) C (by decide) dJ4_linkBefore_47 (r_iadd C dJ4_linkBefore_48 ?_)
  refine r_pf (k := 1) (v := .int (v1 + (1 : Int32))) C kJ4 (by decide) (Or.inl q178) (Or.inl rfl) (Or.inl rfl) rfl rfl dJ4_linkBefore_49 hw (fun h2 hw => ?_)
  refine r_aload_n C rfl 0 rfl dJ4_linkBefore_52 (r_dup C rfl dJ4_linkBefore_53 ?_)
  refine r_gfI (k := 0) C kJ4 (by decide) (Or.inl q160) (Or.inr q156) dJ4_linkBefore_54 hw (fun v3 hw => ?_)
  refine r_iconst (v := (1 : Int32)) C (by decide) dJ4_linkBefore_57 (r_iadd C dJ4_linkBefore_58 ?_)
  refine r_pf (k := 0) (v := .int (v3 + (1 : Int32))) C kJ4 (by decide) (Or.inl q160) (Or.inr q156) (Or.inl rfl) rfl rfl dJ4_linkBefore_59 hw (fun h4 hw => ?_)
  exact r_return C dJ4_linkBefore_62 b1 b2 ⟨rfl, hw⟩
theorem sg_J4_linkBefore : ySg yJ4_linkBefore 2 = true := by decide +kernel
theorem c_J4_linkBefore (G : gT) (l : Launch) (mc ms : Nat) (a0 : Nat) (a1 : Nat) (a2 : Nat) (h : Hp) (Q : Hp → Prop) (hw : w_J4_linkBefore mc ms a0 a1 a2 h Q) : Ct G l yJ4_linkBefore (ws_ yJ4_linkBefore cJ4_linkBefore 5 (none)) 2 35 mc ms [.ref a0, .ref a1, .ref a2] h (pV Q) := by
  refine Ct.of (own := RJ4) false (by decide +kernel) rfl (show (_ : Nat) ≤ _ from Nat.le_of_ble_eq_true rfl) (fun z => by cases z) (fun V C => ?_)
  show V h 0 0 0 [(0, .ref a0), (1, .ref a1), (2, .ref a2)] []
  unfold w_J4_linkBefore at hw
  refine r_aload_n C rfl 2 rfl dJ4_linkBefore_0 ?_
  refine r_gfR (k := 2) C kJ8 (by decide) (Or.inl q293) (Or.inl rfl) dJ4_linkBefore_1 hw (fun v5 hw => ?_)
  refine r_astore_nO (x := v5) (L' := [(3, va_rf v5), (0, .ref a0), (1, .ref a1), (2, .ref a2)]) C rfl (by decide) rfl dJ4_linkBefore_4 ?_
  obtain ⟨hp6, hp7, hw⟩ := hw
  refine r_new C kJ8 q280 q281 q88 df_10 dJ4_linkBefore_5 hp6 hp7 hw (fun q8 h9 hw => ?_)
  refine r_dup C rfl dJ4_linkBefore_8 (r_aload_nO C rfl 0 rfl dJ4_linkBefore_9 (r_aload_n C rfl 2 rfl dJ4_linkBefore_10 (r_aload_n C rfl 3 rfl dJ4_linkBefore_11 ?_)))
  refine r_callI (rest := [.ref q8]) (As := [va_rf v5, .ref a1, .ref a2]) C sg_J8_init rfl q282 q283 q88 q284 rfl (Nat.le_of_ble_eq_true rfl) dJ4_linkBefore_12 rfl hp6 hp7 (c_J8_init G l q8 v5 a1 (some a2) h9 _ hw) (k_V (fun h11 hw => ?_))
  refine r_astore (L' := [(4, .ref q8), (3, va_rf v5), (0, .ref a0), (1, .ref a1), (2, .ref a2)]) C (by decide) (by rcases v5 with _ | _ <;> rfl) dJ4_linkBefore_15 (r_aload_n C rfl 4 rfl dJ4_linkBefore_17 (r_aload C 0 rfl dJ4_linkBefore_18 ?_))
  refine r_pf (k := 2) (v := .ref q8) C kJ8 (by decide) (Or.inl q293) (Or.inl rfl) (Or.inl rfl) rfl rfl dJ4_linkBefore_20 hw (fun h12 hw => ?_)
  refine r_aload_nO C rfl 1 rfl dJ4_linkBefore_23 ?_
  refine r_ifnonnull (x := v5) (tgt := 36) C (by decide) dJ4_linkBefore_24 (fun y13 hc16 => ?_) (fun hc16 => ?_)
  · have hw_y13 := hw.2 y13 hc16
    subst hc16
    have hw := hw_y13
    refine r_aload_n C rfl 1 rfl dJ4_linkBefore_36 (r_aload C 0 rfl dJ4_linkBefore_37 ?_)
    refine r_pf (k := 1) (v := .ref q8) C kJ8 (by decide) (Or.inl q291) (Or.inl rfl) (Or.inl rfl) rfl rfl dJ4_linkBefore_39 hw (fun h15 hw => ?_)
    exact r_sub C [2] rfl (b_J4_linkBefore_42 C _ _ _ _ hp6 hp7 hw)
  · have hw_y13 := hw.1 hc16
    subst hc16
    have hw := hw_y13
    refine r_aload_n C rfl 2 rfl dJ4_linkBefore_27 (r_aload C 0 rfl dJ4_linkBefore_28 ?_)
    refine r_pf (k := 2) (v := .ref q8) C kJ4 (by decide) (Or.inl q180) (Or.inl rfl) (Or.inl rfl) rfl rfl dJ4_linkBefore_30 hw (fun h14 hw => ?_)
    refine r_goto (tgt := 42) C (by decide) dJ4_linkBefore_33 ?_
    exact r_sub C [2] rfl (b_J4_linkBefore_42 C _ _ _ _ hp6 hp7 hw)
def w_J4_add_2 (mc ms : Nat) (a0 : Nat) (i1 : Int32) (a2 : Nat) (h : Hp) (Q : Hp → Prop) : Prop :=
  hasC h a0 9 ∧ (w_J4_checkPositionIndex a0 i1 h (fun h3 => gfI h3 a0 9 1 (fun v4 => (¬ i1 = v4 → hasC h3 a0 9 ∧ (w_J4_node a0 i1 h3 (fun r7 h8 => nn r7 (fun y9 => hasC h8 a0 9 ∧ (∃ k13 k14 : Nat, 0 + k13 ≤ mc ∧ 0 + k14 ≤ ms ∧ (w_J4_linkBefore k13 k14 a0 a2 y9 h8 (fun h12 => Q h12))))))) ∧ (i1 = v4 → hasC h3 a0 9 ∧ (∃ k20 k21 : Nat, 0 + k20 ≤ mc ∧ 0 + k21 ≤ ms ∧ (w_J4_linkLast k20 k21 a0 a2 h3 (fun h19 => Q h19)))))))
theorem sg_J4_add_2 : ySg yJ4_add_2 2 = true := by decide +kernel
theorem c_J4_add_2 (G : gT) (l : Launch) (mc ms : Nat) (a0 : Nat) (i1 : Int32) (a2 : Nat) (h : Hp) (Q : Hp → Prop) (hw : w_J4_add_2 mc ms a0 i1 a2 h Q) : Ct G l yJ4_add_2 (ws_ yJ4_add_2 cJ4_add_2 3 (none)) 3 59 mc ms [.ref a0, .int i1, .ref a2] h (pV Q) := by
  refine Ct.of (own := RJ4) false (by decide +kernel) rfl (show (_ : Nat) ≤ _ from Nat.le_of_ble_eq_true rfl) (fun z => by cases z) (fun V C => ?_)
  show V h 0 0 0 [(0, .ref a0), (1, .int i1), (2, .ref a2)] []
  unfold w_J4_add_2 at hw
  refine r_aload_n C rfl 0 rfl dJ4_add_2_0 (r_iload_n C rfl 1 rfl dJ4_add_2_1 ?_)
  obtain ⟨hq1, hw⟩ := hw
  refine r_callV (ci := 9) (rest := []) (As := [.int i1]) C sg_J4_checkPositionIndex rfl rfl q1128 q1130 qs21 q83 q1131 rfl (Nat.le_of_ble_eq_true rfl) dJ4_add_2_2 rfl hq1 (Nat.zero_le _) (Nat.zero_le _) (c_J4_checkPositionIndex G l a0 i1 h _ hw) (k_V (fun h3 hw => ?_))
  refine r_iload_n C rfl 1 rfl dJ4_add_2_5 (r_aload_n C rfl 0 rfl dJ4_add_2_6 ?_)
  refine r_gfI (k := 1) C kJ4 (by decide) (Or.inl q178) (Or.inl rfl) dJ4_add_2_7 hw (fun v4 hw => ?_)
  refine r_icmp_ne (tgt := 21) C (by decide) dJ4_add_2_10 (fun hc5 => ?_) (fun hc5 => ?_)
  · have hw := hw.1 hc5
    refine r_aload_n C rfl 0 rfl dJ4_add_2_21 (r_aload_n C rfl 2 rfl dJ4_add_2_22 (r_aload_n C rfl 0 rfl dJ4_add_2_23 (r_iload_n C rfl 1 rfl dJ4_add_2_24 ?_)))
    obtain ⟨hq6, hw⟩ := hw
    refine r_callV (ci := 9) (rest := [.ref a2, .ref a0]) (As := [.int i1]) C sg_J4_node rfl rfl q799 q800 q801 q83 q802 rfl (Nat.le_of_ble_eq_true rfl) dJ4_add_2_25 rfl hq6 (Nat.zero_le _) (Nat.zero_le _) (c_J4_node G l a0 i1 h3 _ hw) (k_R (fun r7 h8 hw => ?_))
    obtain ⟨y9, rfl, hw_y9⟩ := hw
    have hw := hw_y9
    obtain ⟨hq10, hw⟩ := hw
    obtain ⟨k13, k14, hp15, hp16, hw⟩ := hw
    refine r_callV (ci := 9) (rest := []) (As := [.ref a2, .ref y9]) C sg_J4_linkBefore rfl rfl q1991 q1992 q1993 q83 q1994 rfl (Nat.le_of_ble_eq_true rfl) dJ4_add_2_28 rfl hq10 hp15 hp16 (c_J4_linkBefore G l k13 k14 a0 a2 y9 h8 _ hw) (k_V (fun h12 hw => ?_))
    exact r_return C dJ4_add_2_31 hp15 hp16 ⟨rfl, hw⟩
  · have hw := hw.2 hc5
    refine r_aload_n C rfl 0 rfl dJ4_add_2_13 (r_aload_n C rfl 2 rfl dJ4_add_2_14 ?_)
    obtain ⟨hq17, hw⟩ := hw
    obtain ⟨k20, k21, hp22, hp23, hw⟩ := hw
    refine r_callV (ci := 9) (rest := []) (As := [.ref a2]) C sg_J4_linkLast rfl rfl q276 q277 q278 q83 q279 rfl (Nat.le_of_ble_eq_true rfl) dJ4_add_2_15 rfl hq17 hp22 hp23 (c_J4_linkLast G l k20 k21 a0 a2 h3 _ hw) (k_V (fun h19 hw => ?_))
    refine r_goto (tgt := 31) C (by decide) dJ4_add_2_18 ?_
    exact r_return C dJ4_add_2_31 hp22 hp23 ⟨rfl, hw⟩
def w_J4_addLast (mc ms : Nat) (a0 : Nat) (a1 : Nat) (h : Hp) (Q : Hp → Prop) : Prop :=
  hasC h a0 9 ∧ (∃ k4 k5 : Nat, 0 + k4 ≤ mc ∧ 0 + k5 ≤ ms ∧ (w_J4_linkLast k4 k5 a0 a1 h (fun h3 => Q h3)))
theorem sg_J4_addLast : ySg yJ4_addLast 1 = true := by decide +kernel
theorem c_J4_addLast (G : gT) (l : Launch) (mc ms : Nat) (a0 : Nat) (a1 : Nat) (h : Hp) (Q : Hp → Prop) (hw : w_J4_addLast mc ms a0 a1 h Q) : Ct G l yJ4_addLast (ws_ yJ4_addLast cJ4_addLast 2 (none)) 3 58 mc ms [.ref a0, .ref a1] h (pV Q) := by
  refine Ct.of (own := RJ4) false (by decide +kernel) rfl (show (_ : Nat) ≤ _ from Nat.le_of_ble_eq_true rfl) (fun z => by cases z) (fun V C => ?_)
  show V h 0 0 0 [(0, .ref a0), (1, .ref a1)] []
  unfold w_J4_addLast at hw
  refine r_aload_n C rfl 0 rfl dJ4_addLast_0 (r_aload_n C rfl 1 rfl dJ4_addLast_1 ?_)
  obtain ⟨hq1, hw⟩ := hw
  obtain ⟨k4, k5, hp6, hp7, hw⟩ := hw
  refine r_callV (ci := 9) (rest := []) (As := [.ref a1]) C sg_J4_linkLast rfl rfl q276 q277 q278 q83 q279 rfl (Nat.le_of_ble_eq_true rfl) dJ4_addLast_2 rfl hq1 hp6 hp7 (c_J4_linkLast G l k4 k5 a0 a1 h _ hw) (k_V (fun h3 hw => ?_))
  exact r_return C dJ4_addLast_5 hp6 hp7 ⟨rfl, hw⟩
def w_J4_isElementIndex (a0 : Nat) (i1 : Int32) (h : Hp) (Q : Bool → Hp → Prop) : Prop :=
  (i1 < 0 → Q false h) ∧ (¬ i1 < 0 → gfI h a0 9 1 (fun v2 => Q (if v2 ≤ i1 then false else true) h))
theorem sg_J4_isElementIndex : ySg yJ4_isElementIndex 1 = true := by decide +kernel
theorem c_J4_isElementIndex (G : gT) (l : Launch) (a0 : Nat) (i1 : Int32) (h : Hp) (Q : Bool → Hp → Prop) (hw : w_J4_isElementIndex a0 i1 h Q) : Ct G l yJ4_isElementIndex (ws_ yJ4_isElementIndex cJ4_isElementIndex 2 (some .boolean)) 1 12 0 0 [.ref a0, .int i1] h (pZ Q) := by
  refine Ct.of (own := RJ4) false (by decide +kernel) rfl (show (_ : Nat) ≤ _ from Nat.le_of_ble_eq_true rfl) (fun z => by cases z) (fun V C => ?_)
  show V h 0 0 0 [(0, .ref a0), (1, .int i1)] []
  unfold w_J4_isElementIndex at hw
  refine r_iload_n C rfl 1 rfl dJ4_isElementIndex_0 ?_
  refine r_if_lt (tgt := 16) C (by decide) dJ4_isElementIndex_1 (fun hc1 => ?_) (fun hc1 => ?_)
  · have hw := hw.1 hc1
    refine r_iconst (v := (0 : Int32)) C (by decide) dJ4_isElementIndex_16 ?_
    exact r_zreturn (x := false) C dJ4_isElementIndex_17 (Nat.le_refl _) (Nat.le_refl _) ⟨_, rfl, hw⟩
  · have hw := hw.2 hc1
    refine r_iload_n C rfl 1 rfl dJ4_isElementIndex_4 (r_aload_n C rfl 0 rfl dJ4_isElementIndex_5 ?_)
    refine r_gfI (k := 1) C kJ4 (by decide) (Or.inl q178) (Or.inl rfl) dJ4_isElementIndex_6 hw (fun v2 hw => ?_)
    have hJ : V h 0 0 17 [] [.int (bI (if v2 ≤ i1 then false else true))] := by
      exact r_zreturn (x := (if v2 ≤ i1 then false else true)) C dJ4_isElementIndex_17 (Nat.le_refl _) (Nat.le_refl _) ⟨_, rfl, hw⟩
    refine r_icmp_ge (tgt := 16) C (by decide) dJ4_isElementIndex_9 (fun hc3 => ?_) (fun hc3 => ?_)
    · have hJ4 := hJ
      try simp only [if_pos hc3] at hJ4
      refine r_iconst (v := (0 : Int32)) C (by decide) dJ4_isElementIndex_16 ?_
      exact r_sub C [] rfl hJ4
    · have hJ4 := hJ
      try simp only [if_neg hc3] at hJ4
      refine r_iconst (v := (1 : Int32)) C (by decide) dJ4_isElementIndex_12 (r_goto (tgt := 17) C (by decide) dJ4_isElementIndex_13 ?_)
      exact r_sub C [] rfl hJ4
def w_J4_checkElementIndex (a0 : Nat) (i1 : Int32) (h : Hp) (Q : Hp → Prop) : Prop :=
  hasC h a0 9 ∧ (w_J4_isElementIndex a0 i1 h (fun r2 h3 => (r2 = true → Q h3) ∧ (r2 = false → False)))
theorem sg_J4_checkElementIndex : ySg yJ4_checkElementIndex 1 = true := by decide +kernel
theorem c_J4_checkElementIndex (G : gT) (l : Launch) (a0 : Nat) (i1 : Int32) (h : Hp) (Q : Hp → Prop) (hw : w_J4_checkElementIndex a0 i1 h Q) : Ct G l yJ4_checkElementIndex (ws_ yJ4_checkElementIndex cJ4_checkElementIndex 2 (none)) 2 33 0 0 [.ref a0, .int i1] h (pV Q) := by
  refine Ct.of (own := RJ4) false (by decide +kernel) rfl (show (_ : Nat) ≤ _ from Nat.le_of_ble_eq_true rfl) (fun z => by cases z) (fun V C => ?_)
  show V h 0 0 0 [(0, .ref a0), (1, .int i1)] []
  unfold w_J4_checkElementIndex at hw
  refine r_aload_n C rfl 0 rfl dJ4_checkElementIndex_0 (r_iload_n C rfl 1 rfl dJ4_checkElementIndex_1 ?_)
  obtain ⟨hq1, hw⟩ := hw
  refine r_callV (ci := 9) (rest := []) (As := [.int i1]) C sg_J4_isElementIndex rfl rfl q477 q479 qs11 q83 q480 rfl (Nat.le_of_ble_eq_true rfl) dJ4_checkElementIndex_2 rfl hq1 (Nat.le_refl _) (Nat.le_refl _) (c_J4_isElementIndex G l a0 i1 h _ hw) (k_Z (fun r2 h3 hw => ?_))
  refine r_if_ne_b (tgt := 21) C (by decide) dJ4_checkElementIndex_5 (fun hc4 => ?_) (fun hc4 => ?_)
  · have hw := hw.1 hc4
    exact r_return C dJ4_checkElementIndex_21 (Nat.le_refl _) (Nat.le_refl _) ⟨rfl, hw⟩
  · have hw := hw.2 hc4
    exact hw.elim
def S_J4_indexOf_11 (Q : Int32 → Hp → Prop) (LA11 : Hp → Int32 → (Option Nat) → Prop) (h : Hp) (x2 : Int32) (x3 : Option Nat) : Prop :=
  (x3 = none → Q (-1 : Int32) h) ∧ (∀ y1 : Nat, x3 = some y1 → gfR h y1 10 0 (fun v2 => (v2 = none → Q x2 h) ∧ (∀ y3 : Nat, v2 = some y3 → gfR h y1 10 1 (fun v4 => LA11 h (x2 + (1 : Int32)) v4))))
def B_J4_indexOf_11 (Q : Int32 → Hp → Prop) : Nat → Hp → Int32 → (Option Nat) → Prop
  | 0, _, _, _ => False
  | k + 1, h, x2, x3 => S_J4_indexOf_11 Q (B_J4_indexOf_11 Q k) h x2 x3
def S_J4_indexOf_43 (Q : Int32 → Hp → Prop) (LA43 : Hp → Nat → Int32 → (Option Nat) → Prop) (h : Hp) (x1 : Nat) (x2 : Int32) (x3 : Option Nat) : Prop :=
  (x3 = none → Q (-1 : Int32) h) ∧ (∀ y7 : Nat, x3 = some y7 → gfR h y7 10 0 (fun v8 => nn v8 (fun y9 => hasC h x1 12 ∧ (wj_J24_equals x1 y9 h (fun r11 h12 => (r11 = false → gfR h12 y7 10 1 (fun v14 => LA43 h12 x1 (x2 + (1 : Int32)) v14)) ∧ (r11 = true → Q x2 h12))))))
def B_J4_indexOf_43 (Q : Int32 → Hp → Prop) : Nat → Hp → Nat → Int32 → (Option Nat) → Prop
  | 0, _, _, _, _ => False
  | k + 1, h, x1, x2, x3 => S_J4_indexOf_43 Q (B_J4_indexOf_43 Q k) h x1 x2 x3
def w_J4_indexOf (a0 : Nat) (a1 : Nat) (h : Hp) (Q : Int32 → Hp → Prop) : Prop :=
  gfR h a0 9 2 (fun v16 => ∃ k9 : Nat, B_J4_indexOf_43 Q k9 h a1 (0 : Int32) v16)
theorem s_J4_indexOf_11 {G : gT} {l : Launch} {V : Hp → Nat → Nat → Nat → List (Nat × Value) → List Value → Prop} {Q : Int32 → Hp → Prop} (C : Cx G l V cJ4_indexOf 4 RJ4 3 53 0 0 (pI Q) none (some .int) [] false) (LA11 : Hp → Int32 → (Option Nat) → Prop) (hLA11 : ∀ (h : Hp) (x2 : Int32) (x3 : Option Nat), LA11 h x2 x3 → V h 0 0 11 [(2, .int x2), (3, va_rf x3)] []) (h : Hp) (x2 : Int32) (x3 : Option Nat) (hw : S_J4_indexOf_11 Q LA11 h x2 x3) : V h 0 0 11 [(2, .int x2), (3, va_rf x3)] [] := by
  unfold S_J4_indexOf_11 at hw
  refine r_aload_nO C rfl 1 rfl dJ4_indexOf_11 ?_
  refine r_ifnull (x := x3) (tgt := 35) C (by decide) dJ4_indexOf_12 (fun hc6 => ?_) (fun y1 hc6 => ?_)
  · have hw_y1 := hw.1 hc6
    subst hc6
    have hw := hw_y1
    refine r_goto (tgt := 71) C (by decide) dJ4_indexOf_35 (r_iconst (v := (-1 : Int32)) C (by decide) dJ4_indexOf_71 ?_)
    exact r_ireturn C dJ4_indexOf_72 (Nat.le_refl _) (Nat.le_refl _) ⟨_, rfl, hw⟩
  · have hw_y1 := hw.2 y1 hc6
    subst hc6
    have hw := hw_y1
    refine r_aload_n C rfl 1 rfl dJ4_indexOf_15 ?_
    refine r_gfR (k := 0) C kJ8 (by decide) (Or.inl q288) (Or.inl rfl) dJ4_indexOf_16 hw (fun v2 hw => ?_)
    refine r_ifnonnull (x := v2) (tgt := 24) C (by decide) dJ4_indexOf_19 (fun y3 hc5 => ?_) (fun hc5 => ?_)
    · have hw_y3 := hw.2 y3 hc5
      subst hc5
      have hw := hw_y3
      refine r_iinc (v := x2 + (1 : Int32)) (L' := [(2, .int (x2 + (1 : Int32))), (3, .ref y1)]) C (u := 0) rfl (by rfl) (by decide) rfl dJ4_indexOf_24 (r_aload_n C rfl 1 rfl dJ4_indexOf_27 ?_)
      refine r_gfR (k := 1) C kJ8 (by decide) (Or.inl q291) (Or.inl rfl) dJ4_indexOf_28 hw (fun v4 hw => ?_)
      refine r_astore_nO (x := v4) (L' := [(3, va_rf v4), (2, .int (x2 + (1 : Int32)))]) C rfl (by decide) rfl dJ4_indexOf_31 (r_goto (tgt := 11) C (by decide) dJ4_indexOf_32 ?_)
      exact r_sub C [1, 0] rfl (hLA11 _ _ _ hw)
    · have hw_y3 := hw.1 hc5
      subst hc5
      have hw := hw_y3
      refine r_iload_n C rfl 0 rfl dJ4_indexOf_22 ?_
      exact r_ireturn C dJ4_indexOf_23 (Nat.le_refl _) (Nat.le_refl _) ⟨_, rfl, hw⟩
theorem b_J4_indexOf_11 {G : gT} {l : Launch} {V : Hp → Nat → Nat → Nat → List (Nat × Value) → List Value → Prop} {Q : Int32 → Hp → Prop} (C : Cx G l V cJ4_indexOf 4 RJ4 3 53 0 0 (pI Q) none (some .int) [] false) : ∀ (k : Nat) (h : Hp) (x2 : Int32) (x3 : Option Nat), B_J4_indexOf_11 Q k h x2 x3 → V h 0 0 11 [(2, .int x2), (3, va_rf x3)] [] := by
  intro k
  induction k with
  | zero =>
    intro h x2 x3 hw
    exact hw.elim
  | succ k ih =>
    intro h x2 x3 hw
    exact s_J4_indexOf_11 C _ (fun h x2 x3 hw => ih h x2 x3 hw) h x2 x3 hw
theorem s_J4_indexOf_43 {G : gT} {l : Launch} {V : Hp → Nat → Nat → Nat → List (Nat × Value) → List Value → Prop} {Q : Int32 → Hp → Prop} (C : Cx G l V cJ4_indexOf 4 RJ4 3 53 0 0 (pI Q) none (some .int) [] false) (LA43 : Hp → Nat → Int32 → (Option Nat) → Prop) (hLA43 : ∀ (h : Hp) (x1 : Nat) (x2 : Int32) (x3 : Option Nat), LA43 h x1 x2 x3 → V h 0 0 43 [(1, .ref x1), (2, .int x2), (3, va_rf x3)] []) (h : Hp) (x1 : Nat) (x2 : Int32) (x3 : Option Nat) (hw : S_J4_indexOf_43 Q LA43 h x1 x2 x3) : V h 0 0 43 [(1, .ref x1), (2, .int x2), (3, va_rf x3)] [] := by
  unfold S_J4_indexOf_43 at hw
  refine r_aload_nO C rfl 2 rfl dJ4_indexOf_43 ?_
  refine r_ifnull (x := x3) (tgt := 71) C (by decide) dJ4_indexOf_44 (fun hc15 => ?_) (fun y7 hc15 => ?_)
  · have hw_y7 := hw.1 hc15
    subst hc15
    have hw := hw_y7
    refine r_iconst (v := (-1 : Int32)) C (by decide) dJ4_indexOf_71 ?_
    exact r_ireturn C dJ4_indexOf_72 (Nat.le_refl _) (Nat.le_refl _) ⟨_, rfl, hw⟩
  · have hw_y7 := hw.2 y7 hc15
    subst hc15
    have hw := hw_y7
    refine r_aload_n C rfl 0 rfl dJ4_indexOf_47 (r_aload_n C rfl 2 rfl dJ4_indexOf_48 ?_)
    refine r_gfR (k := 0) C kJ8 (by decide) (Or.inl q288) (Or.inl rfl) dJ4_indexOf_49 hw (fun v8 hw => ?_)
    obtain ⟨y9, rfl, hw_y9⟩ := hw
    have hw := hw_y9
    obtain ⟨hq10, hw⟩ := hw
    refine r_callU (ci := 12) (owner := "java/lang/Object") (rest := []) (As := [.ref y9]) C (x := ⟨"java/lang/Object", "equals", "(Ljava/lang/Object;)Z"⟩) (show ySg ⟨"java/lang/Object", "equals", "(Ljava/lang/Object;)Z"⟩ 1 = true by decide +kernel) rfl q973 q935 q948 q949 q105 q950 (by decide +kernel) rfl (Nat.le_of_ble_eq_true rfl) dJ4_indexOf_52 rfl hq10 (Nat.le_refl _) (Nat.le_refl _) (cj_J24_equals G l x1 y9 h _ hw) (k_Z (fun r11 h12 hw => ?_))
    refine r_if_eq_b (tgt := 60) C (by decide) dJ4_indexOf_55 (fun hc13 => ?_) (fun hc13 => ?_)
    · have hw := hw.1 hc13
      refine r_iinc (v := x2 + (1 : Int32)) (L' := [(2, .int (x2 + (1 : Int32))), (1, .ref x1), (3, .ref y7)]) C (u := 1) rfl (by rfl) (by decide) rfl dJ4_indexOf_60 (r_aload_n C rfl 2 rfl dJ4_indexOf_63 ?_)
      refine r_gfR (k := 1) C kJ8 (by decide) (Or.inl q291) (Or.inl rfl) dJ4_indexOf_64 hw (fun v14 hw => ?_)
      refine r_astore_nO (x := v14) (L' := [(3, va_rf v14), (2, .int (x2 + (1 : Int32))), (1, .ref x1)]) C rfl (by decide) rfl dJ4_indexOf_67 (r_goto (tgt := 43) C (by decide) dJ4_indexOf_68 ?_)
      exact r_sub C [2, 1, 0] rfl (hLA43 _ _ _ _ hw)
    · have hw := hw.2 hc13
      refine r_iload_n C rfl 1 rfl dJ4_indexOf_58 ?_
      exact r_ireturn C dJ4_indexOf_59 (Nat.le_refl _) (Nat.le_refl _) ⟨_, rfl, hw⟩
theorem b_J4_indexOf_43 {G : gT} {l : Launch} {V : Hp → Nat → Nat → Nat → List (Nat × Value) → List Value → Prop} {Q : Int32 → Hp → Prop} (C : Cx G l V cJ4_indexOf 4 RJ4 3 53 0 0 (pI Q) none (some .int) [] false) : ∀ (k : Nat) (h : Hp) (x1 : Nat) (x2 : Int32) (x3 : Option Nat), B_J4_indexOf_43 Q k h x1 x2 x3 → V h 0 0 43 [(1, .ref x1), (2, .int x2), (3, va_rf x3)] [] := by
  intro k
  induction k with
  | zero =>
    intro h x1 x2 x3 hw
    exact hw.elim
  | succ k ih =>
    intro h x1 x2 x3 hw
    exact s_J4_indexOf_43 C _ (fun h x1 x2 x3 hw => ih h x1 x2 x3 hw) h x1 x2 x3 hw
theorem sg_J4_indexOf : ySg yJ4_indexOf 1 = true := by decide +kernel
theorem c_J4_indexOf (G : gT) (l : Launch) (a0 : Nat) (a1 : Nat) (h : Hp) (Q : Int32 → Hp → Prop) (hw : w_J4_indexOf a0 a1 h Q) : Ct G l yJ4_indexOf (ws_ yJ4_indexOf cJ4_indexOf 4 (some .int)) 3 53 0 0 [.ref a0, .ref a1] h (pI Q) := by
  refine Ct.of (own := RJ4) false (by decide +kernel) rfl (show (_ : Nat) ≤ _ from Nat.le_of_ble_eq_true rfl) (fun z => by cases z) (fun V C => ?_)
  show V h 0 0 0 [(0, .ref a0), (1, .ref a1)] []
  unfold w_J4_indexOf at hw
  refine r_iconst (v := (0 : Int32)) C (by decide) dJ4_indexOf_0 (r_istore_n (L' := [(2, .int (0 : Int32)), (0, .ref a0), (1, .ref a1)]) C rfl (by decide) rfl dJ4_indexOf_1 (r_aload_n C rfl 2 rfl dJ4_indexOf_2 ?_))
  refine r_ifnonnull (x := some a1) (tgt := 38) C (by decide) dJ4_indexOf_3 (fun _ _ => ?_) (fun z => by cases z)
  refine r_aload_n C rfl 1 rfl dJ4_indexOf_38 ?_
  refine r_gfR (k := 2) C kJ4 (by decide) (Or.inl q180) (Or.inl rfl) dJ4_indexOf_39 hw (fun v16 hw => ?_)
  refine r_astore_nO (x := v16) (L' := [(3, va_rf v16), (2, .int (0 : Int32)), (0, .ref a0), (1, .ref a1)]) C rfl (by decide) rfl dJ4_indexOf_42 ?_
  obtain ⟨k9, hw⟩ := hw
  exact r_sub C [3, 1, 0] rfl (b_J4_indexOf_43 C _ _ _ _ _ hw)
def w_J4_contains (a0 : Nat) (a1 : Nat) (h : Hp) (Q : Bool → Hp → Prop) : Prop :=
  hasC h a0 9 ∧ (w_J4_indexOf a0 a1 h (fun r2 h3 => Q (if r2 < 0 then false else true) h3))
theorem sg_J4_contains : ySg yJ4_contains 1 = true := by decide +kernel
theorem c_J4_contains (G : gT) (l : Launch) (a0 : Nat) (a1 : Nat) (h : Hp) (Q : Bool → Hp → Prop) (hw : w_J4_contains a0 a1 h Q) : Ct G l yJ4_contains (ws_ yJ4_contains cJ4_contains 2 (some .boolean)) 4 76 0 0 [.ref a0, .ref a1] h (pZ Q) := by
  refine Ct.of (own := RJ4) false (by decide +kernel) rfl (show (_ : Nat) ≤ _ from Nat.le_of_ble_eq_true rfl) (fun z => by cases z) (fun V C => ?_)
  show V h 0 0 0 [(0, .ref a0), (1, .ref a1)] []
  unfold w_J4_contains at hw
  refine r_aload_n C rfl 0 rfl dJ4_contains_0 (r_aload_n C rfl 1 rfl dJ4_contains_1 ?_)
  obtain ⟨hq1, hw⟩ := hw
  refine r_callV (ci := 9) (rest := []) (As := [.ref a1]) C sg_J4_indexOf rfl rfl q969 q970 q971 q83 q972 rfl (Nat.le_of_ble_eq_true rfl) dJ4_contains_2 rfl hq1 (Nat.le_refl _) (Nat.le_refl _) (c_J4_indexOf G l a0 a1 h _ hw) (k_I (fun r2 h3 hw => ?_))
  have hJ : V h3 0 0 13 [] [.int (bI (if r2 < 0 then false else true))] := by
    exact r_zreturn (x := (if r2 < 0 then false else true)) C dJ4_contains_13 (Nat.le_refl _) (Nat.le_refl _) ⟨_, rfl, hw⟩
  refine r_if_lt (tgt := 12) C (by decide) dJ4_contains_5 (fun hc4 => ?_) (fun hc4 => ?_)
  · have hJ5 := hJ
    try simp only [if_pos hc4] at hJ5
    refine r_iconst (v := (0 : Int32)) C (by decide) dJ4_contains_12 ?_
    exact r_sub C [] rfl hJ5
  · have hJ5 := hJ
    try simp only [if_neg hc4] at hJ5
    refine r_iconst (v := (1 : Int32)) C (by decide) dJ4_contains_8 (r_goto (tgt := 13) C (by decide) dJ4_contains_9 ?_)
    exact r_sub C [] rfl hJ5
def w_J4_get (a0 : Nat) (i1 : Int32) (h : Hp) (Q : Option Nat → Hp → Prop) : Prop :=
  hasC h a0 9 ∧ (w_J4_checkElementIndex a0 i1 h (fun h3 => hasC h3 a0 9 ∧ (w_J4_node a0 i1 h3 (fun r5 h6 => nn r5 (fun y7 => gfR h6 y7 10 0 (fun v8 => Q v8 h6))))))
theorem sg_J4_get : ySg yJ4_get 1 = true := by decide +kernel
theorem c_J4_get (G : gT) (l : Launch) (a0 : Nat) (i1 : Int32) (h : Hp) (Q : Option Nat → Hp → Prop) (hw : w_J4_get a0 i1 h Q) : Ct G l yJ4_get (ws_ yJ4_get cJ4_get 2 (some (.object "java/lang/Object"))) 3 54 0 0 [.ref a0, .int i1] h (pR Q) := by
  refine Ct.of (own := RJ4) false (by decide +kernel) rfl (show (_ : Nat) ≤ _ from Nat.le_of_ble_eq_true rfl) (fun z => by cases z) (fun V C => ?_)
  show V h 0 0 0 [(0, .ref a0), (1, .int i1)] []
  unfold w_J4_get at hw
  refine r_aload_n C rfl 0 rfl dJ4_get_0 (r_iload_n C rfl 1 rfl dJ4_get_1 ?_)
  obtain ⟨hq1, hw⟩ := hw
  refine r_callV (ci := 9) (rest := []) (As := [.int i1]) C sg_J4_checkElementIndex rfl rfl q473 q475 qs10 q83 q476 rfl (Nat.le_of_ble_eq_true rfl) dJ4_get_2 rfl hq1 (Nat.le_refl _) (Nat.le_refl _) (c_J4_checkElementIndex G l a0 i1 h _ hw) (k_V (fun h3 hw => ?_))
  refine r_aload_n C rfl 0 rfl dJ4_get_5 (r_iload_n C rfl 1 rfl dJ4_get_6 ?_)
  obtain ⟨hq4, hw⟩ := hw
  refine r_callV (ci := 9) (rest := []) (As := [.int i1]) C sg_J4_node rfl rfl q799 q800 q801 q83 q802 rfl (Nat.le_of_ble_eq_true rfl) dJ4_get_7 rfl hq4 (Nat.le_refl _) (Nat.le_refl _) (c_J4_node G l a0 i1 h3 _ hw) (k_R (fun r5 h6 hw => ?_))
  obtain ⟨y7, rfl, hw_y7⟩ := hw
  have hw := hw_y7
  refine r_gfR (k := 0) C kJ8 (by decide) (Or.inl q288) (Or.inl rfl) dJ4_get_10 hw (fun v8 hw => ?_)
  exact r_areturn (x := v8) C (by first | exact Or.inl ⟨_, rfl⟩ | exact Or.inr ⟨_, rfl⟩) dJ4_get_13 (Nat.le_refl _) (Nat.le_refl _) ⟨_, rfl, hw⟩
def w_J4_size (a0 : Nat) (h : Hp) (Q : Int32 → Hp → Prop) : Prop :=
  gfI h a0 9 1 (fun v1 => Q v1 h)
theorem sg_J4_size : ySg yJ4_size 0 = true := by decide +kernel
theorem c_J4_size (G : gT) (l : Launch) (a0 : Nat) (h : Hp) (Q : Int32 → Hp → Prop) (hw : w_J4_size a0 h Q) : Ct G l yJ4_size (ws_ yJ4_size cJ4_size 1 (some .int)) 1 12 0 0 [.ref a0] h (pI Q) := by
  refine Ct.of (own := RJ4) false (by decide +kernel) rfl (show (_ : Nat) ≤ _ from Nat.le_of_ble_eq_true rfl) (fun z => by cases z) (fun V C => ?_)
  show V h 0 0 0 [(0, .ref a0)] []
  unfold w_J4_size at hw
  refine r_aload_n C rfl 0 rfl dJ4_size_0 ?_
  refine r_gfI (k := 1) C kJ4 (by decide) (Or.inl q178) (Or.inl rfl) dJ4_size_1 hw (fun v1 hw => ?_)
  exact r_ireturn C dJ4_size_4 (Nat.le_refl _) (Nat.le_refl _) ⟨_, rfl, hw⟩
