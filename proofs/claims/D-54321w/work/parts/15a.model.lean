set_option maxRecDepth 100000
set_option maxHeartbeats 4000000

def S_X3_fresh_2 (Q : Hp → Prop) (LA2 : Hp → Nat → Int32 → Prop) (h : Hp) (x0 : Nat) (x1 : Int32) : Prop :=
  ((291 : Int32) ≤ x1 → wrI h x0 (3 : Int32) (10 : Int32) (fun h2 => wrI h2 x0 (4 : Int32) (3 : Int32) (fun h3 => Q h3))) ∧ (¬ (291 : Int32) ≤ x1 → wrI h x0 x1 (0 : Int32) (fun h4 => LA2 h4 x0 (x1 + (1 : Int32))))
def B_X3_fresh_2 (Q : Hp → Prop) : Nat → Hp → Nat → Int32 → Prop
  | 0, _, _, _ => False
  | k + 1, h, x0, x1 => S_X3_fresh_2 Q (B_X3_fresh_2 Q k) h x0 x1
def w_X3_fresh (a0 : Nat) (h : Hp) (Q : Hp → Prop) : Prop :=
  ∃ k9 : Nat, B_X3_fresh_2 Q k9 h a0 (0 : Int32)
theorem s_X3_fresh_2 {G : gT} {l : Launch} {V : Hp → Nat → Nat → Nat → List (Nat × Value) → List Value → Prop} {Q : Hp → Prop} (C : Cx G l V cX3_fresh 2 RX3 1 12 0 0 (pV Q) none (none) [] false) (LA2 : Hp → Nat → Int32 → Prop) (hLA2 : ∀ (h : Hp) (x0 : Nat) (x1 : Int32), LA2 h x0 x1 → V h 0 0 2 [(0, .ref x0), (1, .int x1)] []) (h : Hp) (x0 : Nat) (x1 : Int32) (hw : S_X3_fresh_2 Q LA2 h x0 x1) : V h 0 0 2 [(0, .ref x0), (1, .int x1)] [] := by
  unfold S_X3_fresh_2 at hw
  refine r_iload_n C rfl 1 rfl dX3_fresh_2 (r_sipush (v := (291 : Int32)) C (by decide) dX3_fresh_3 ?_)
  refine r_icmp_ge (tgt := 19) C (by decide) dX3_fresh_6 (fun hc1 => ?_) (fun hc1 => ?_)
  · have hw := hw.1 hc1
    refine r_aload_n C rfl 0 rfl dX3_fresh_19 (r_iconst (v := (3 : Int32)) C (by decide) dX3_fresh_20 (r_bipush (v := (10 : Int32)) C (by decide) dX3_fresh_21 ?_))
    refine r_iastore C dX3_fresh_23 hw (fun h2 hw => ?_)
    refine r_aload_n C rfl 0 rfl dX3_fresh_24 (r_iconst (v := (4 : Int32)) C (by decide) dX3_fresh_25 (r_iconst (v := (3 : Int32)) C (by decide) dX3_fresh_26 ?_))
    refine r_iastore C dX3_fresh_27 hw (fun h3 hw => ?_)
    exact r_return C dX3_fresh_28 (Nat.le_refl _) (Nat.le_refl _) ⟨rfl, hw⟩
  · have hw := hw.2 hc1
    refine r_aload_n C rfl 0 rfl dX3_fresh_9 (r_iload_n C rfl 1 rfl dX3_fresh_10 (r_iconst (v := (0 : Int32)) C (by decide) dX3_fresh_11 ?_))
    refine r_iastore C dX3_fresh_12 hw (fun h4 hw => ?_)
    refine r_iinc (v := x1 + (1 : Int32)) (L' := [(1, .int (x1 + (1 : Int32))), (0, .ref x0)]) C (u := 1) rfl (by rfl) (by decide) rfl dX3_fresh_13 (r_goto (tgt := 2) C (by decide) dX3_fresh_16 ?_)
    exact r_sub C [1, 0] rfl (hLA2 _ _ _ hw)
theorem b_X3_fresh_2 {G : gT} {l : Launch} {V : Hp → Nat → Nat → Nat → List (Nat × Value) → List Value → Prop} {Q : Hp → Prop} (C : Cx G l V cX3_fresh 2 RX3 1 12 0 0 (pV Q) none (none) [] false) : ∀ (k : Nat) (h : Hp) (x0 : Nat) (x1 : Int32), B_X3_fresh_2 Q k h x0 x1 → V h 0 0 2 [(0, .ref x0), (1, .int x1)] [] := by
  intro k
  induction k with
  | zero =>
    intro h x0 x1 hw
    exact hw.elim
  | succ k ih =>
    intro h x0 x1 hw
    exact s_X3_fresh_2 C _ (fun h x0 x1 hw => ih h x0 x1 hw) h x0 x1 hw
theorem sg_X3_fresh : ySg yX3_fresh 1 = true := by decide +kernel
theorem c_X3_fresh (G : gT) (l : Launch) (a0 : Nat) (h : Hp) (Q : Hp → Prop) (hw : w_X3_fresh a0 h Q) : Ct G l yX3_fresh (ws_ yX3_fresh cX3_fresh 2 (none)) 1 12 0 0 [.ref a0] h (pV Q) := by
  refine Ct.of (own := RX3) false (by decide +kernel) rfl (show (_ : Nat) ≤ _ from Nat.le_of_ble_eq_true rfl) (fun z => by cases z) (fun V C => ?_)
  show V h 0 0 0 [(0, .ref a0)] []
  unfold w_X3_fresh at hw
  refine r_iconst (v := (0 : Int32)) C (by decide) dX3_fresh_0 (r_istore_n (L' := [(1, .int (0 : Int32)), (0, .ref a0)]) C rfl (by decide) rfl dX3_fresh_1 ?_)
  obtain ⟨k9, hw⟩ := hw
  exact r_sub C [1, 0] rfl (b_X3_fresh_2 C _ _ _ _ hw)
def w_X3_init (mc ms : Nat) (a0 : Nat) (h : Hp) (Q : Hp → Prop) : Prop :=
  0 + 1 ≤ mc ∧ 0 + 291 ≤ ms ∧ (nwA h 0 (291, .inl (fun _ => 0)) (fun q3 h4 => pf h4 a0 2 1 (.ref q3) (fun h5 => (0 + 1) + 1 ≤ mc ∧ (0 + 291) + 291 ≤ ms ∧ (nwA h5 0 (291, .inl (fun _ => 0)) (fun q8 h9 => pf h9 a0 2 2 (.ref q8) (fun h10 => ((0 + 1) + 1) + 1 ≤ mc ∧ ((0 + 291) + 291) + 291 ≤ ms ∧ (nwA h10 0 (291, .inl (fun _ => 0)) (fun q13 h14 => pf h14 a0 2 3 (.ref q13) (fun h15 => (((0 + 1) + 1) + 1) + 1 ≤ mc ∧ (((0 + 291) + 291) + 291) + 4074 ≤ ms ∧ (nwA h15 0 (4074, .inl (fun _ => 0)) (fun q18 h19 => pf h19 a0 2 4 (.ref q18) (fun h20 => ((((0 + 1) + 1) + 1) + 1) + 1 ≤ mc ∧ ((((0 + 291) + 291) + 291) + 4074) + 582 ≤ ms ∧ (nwA h20 0 (582, .inl (fun _ => 0)) (fun q23 h24 => pf h24 a0 2 6 (.ref q23) (fun h25 => (((((0 + 1) + 1) + 1) + 1) + 1) + 1 ≤ mc ∧ (((((0 + 291) + 291) + 291) + 4074) + 582) + 2 ≤ ms ∧ (nwA h25 5 (2, .inl (fun _ => bI false)) (fun q28 h29 => pf h29 a0 2 7 (.ref q28) (fun h30 => ((((((0 + 1) + 1) + 1) + 1) + 1) + 1) + 1 ≤ mc ∧ ((((((0 + 291) + 291) + 291) + 4074) + 582) + 2) + 120 ≤ ms ∧ (nwA h30 0 (120, .inl (fun _ => 0)) (fun q33 h34 => pf h34 a0 2 8 (.ref q33) (fun h35 => (((((((0 + 1) + 1) + 1) + 1) + 1) + 1) + 1) + 1 ≤ mc ∧ (((((((0 + 291) + 291) + 291) + 4074) + 582) + 2) + 120) + 6 ≤ ms ∧ (nwA h35 0 (6, .inl (fun _ => 0)) (fun q38 h39 => pf h39 a0 2 17 (.ref q38) (fun h40 => gfR h40 a0 2 1 (fun v41 => nn v41 (fun y42 => w_X3_fresh y42 h40 (fun h44 => Q h44)))))))))))))))))))))))))))
theorem sg_X3_init : ySg yX3_init 0 = true := by decide +kernel
theorem c_X3_init (G : gT) (l : Launch) (mc ms : Nat) (a0 : Nat) (h : Hp) (Q : Hp → Prop) (hw : w_X3_init mc ms a0 h Q) : Ct G l yX3_init (ws_ yX3_init cX3_init 1 (none)) 2 33 mc ms [.ref a0] h (pV Q) := by
  refine Ct.of (own := RX3) true (by decide +kernel) rfl (show (_ : Nat) ≤ _ from Nat.le_of_ble_eq_true rfl) (fun _ => rfl) (fun V C => ?_)
  show V h 0 0 0 [(0, .ref a0)] []
  unfold w_X3_init at hw
  refine r_aload_n C rfl 0 rfl dX3_init_0 ?_
  refine r_objInit C q2151 q128 q129 (by decide) (by decide) dX3_init_1 ?_
  refine r_aload_n C rfl 0 rfl dX3_init_4 (r_sipush (v := (291 : Int32)) C (by decide) dX3_init_5 ?_)
  obtain ⟨hp1, hp2, hw⟩ := hw
  refine r_newa (atype := .int) (N := 291) (t := 0) C q190 (by decide) rfl (fun _ z => by cases z) (fun cA => rfl) (by decide) (by decide) (by decide) dX3_init_8 hp1 hp2 hw (fun q3 h4 hw => ?_)
  refine r_pf (k := 1) (v := .ref q3) C kX3 (by decide) (Or.inl q2156) (Or.inl rfl) (Or.inr ⟨rfl, rfl, q2156⟩) rfl rfl dX3_init_10 hw (fun h5 hw => ?_)
  refine r_aload_n C rfl 0 rfl dX3_init_13 (r_sipush (v := (291 : Int32)) C (by decide) dX3_init_14 ?_)
  obtain ⟨hp6, hp7, hw⟩ := hw
  refine r_newa (atype := .int) (N := 291) (t := 0) C q190 (by decide) rfl (fun _ z => by cases z) (fun cA => rfl) (by decide) (by decide) (by decide) dX3_init_17 hp6 hp7 hw (fun q8 h9 hw => ?_)
  refine r_pf (k := 2) (v := .ref q8) C kX3 (by decide) (Or.inl q2157) (Or.inl rfl) (Or.inr ⟨rfl, rfl, q2157⟩) rfl rfl dX3_init_19 hw (fun h10 hw => ?_)
  refine r_aload_n C rfl 0 rfl dX3_init_22 (r_sipush (v := (291 : Int32)) C (by decide) dX3_init_23 ?_)
  obtain ⟨hp11, hp12, hw⟩ := hw
  refine r_newa (atype := .int) (N := 291) (t := 0) C q190 (by decide) rfl (fun _ z => by cases z) (fun cA => rfl) (by decide) (by decide) (by decide) dX3_init_26 hp11 hp12 hw (fun q13 h14 hw => ?_)
  refine r_pf (k := 3) (v := .ref q13) C kX3 (by decide) (Or.inl q2158) (Or.inl rfl) (Or.inr ⟨rfl, rfl, q2158⟩) rfl rfl dX3_init_28 hw (fun h15 hw => ?_)
  refine r_aload_n C rfl 0 rfl dX3_init_31 (r_sipush (v := (4074 : Int32)) C (by decide) dX3_init_32 ?_)
  obtain ⟨hp16, hp17, hw⟩ := hw
  refine r_newa (atype := .int) (N := 4074) (t := 0) C q190 (by decide) rfl (fun _ z => by cases z) (fun cA => rfl) (by decide) (by decide) (by decide) dX3_init_35 hp16 hp17 hw (fun q18 h19 hw => ?_)
  refine r_pf (k := 4) (v := .ref q18) C kX3 (by decide) (Or.inl q2159) (Or.inl rfl) (Or.inr ⟨rfl, rfl, q2159⟩) rfl rfl dX3_init_37 hw (fun h20 hw => ?_)
  refine r_aload_n C rfl 0 rfl dX3_init_40 (r_sipush (v := (582 : Int32)) C (by decide) dX3_init_41 ?_)
  obtain ⟨hp21, hp22, hw⟩ := hw
  refine r_newa (atype := .int) (N := 582) (t := 0) C q190 (by decide) rfl (fun _ z => by cases z) (fun cA => rfl) (by decide) (by decide) (by decide) dX3_init_44 hp21 hp22 hw (fun q23 h24 hw => ?_)
  refine r_pf (k := 6) (v := .ref q23) C kX3 (by decide) (Or.inl q2161) (Or.inl rfl) (Or.inr ⟨rfl, rfl, q2161⟩) rfl rfl dX3_init_46 hw (fun h25 hw => ?_)
  refine r_aload_n C rfl 0 rfl dX3_init_49 (r_iconst (v := (2 : Int32)) C (by decide) dX3_init_50 ?_)
  obtain ⟨hp26, hp27, hw⟩ := hw
  refine r_newa (atype := .boolean) (N := 2) (t := 5) C q1414 (by decide) rfl (fun _ z => by cases z) (fun cA => rfl) (by decide) (by decide) (by decide) dX3_init_51 hp26 hp27 hw (fun q28 h29 hw => ?_)
  refine r_pf (k := 7) (v := .ref q28) C kX3 (by decide) (Or.inl q2162) (Or.inl rfl) (Or.inr ⟨rfl, rfl, q2162⟩) rfl rfl dX3_init_53 hw (fun h30 hw => ?_)
  refine r_aload_n C rfl 0 rfl dX3_init_56 (r_bipush (v := (120 : Int32)) C (by decide) dX3_init_57 ?_)
  obtain ⟨hp31, hp32, hw⟩ := hw
  refine r_newa (atype := .int) (N := 120) (t := 0) C q190 (by decide) rfl (fun _ z => by cases z) (fun cA => rfl) (by decide) (by decide) (by decide) dX3_init_59 hp31 hp32 hw (fun q33 h34 hw => ?_)
  refine r_pf (k := 8) (v := .ref q33) C kX3 (by decide) (Or.inl q2163) (Or.inl rfl) (Or.inr ⟨rfl, rfl, q2163⟩) rfl rfl dX3_init_61 hw (fun h35 hw => ?_)
  refine r_aload_n C rfl 0 rfl dX3_init_64 (r_bipush (v := (6 : Int32)) C (by decide) dX3_init_65 ?_)
  obtain ⟨hp36, hp37, hw⟩ := hw
  refine r_newa (atype := .int) (N := 6) (t := 0) C q190 (by decide) rfl (fun _ z => by cases z) (fun cA => rfl) (by decide) (by decide) (by decide) dX3_init_67 hp36 hp37 hw (fun q38 h39 hw => ?_)
  refine r_pf (k := 17) (v := .ref q38) C kX3 (by decide) (Or.inl q2172) (Or.inl rfl) (Or.inr ⟨rfl, rfl, q2172⟩) rfl rfl dX3_init_69 hw (fun h40 hw => ?_)
  refine r_aload_n C rfl 0 rfl dX3_init_72 ?_
  refine r_gfR (k := 1) C kX3 (by decide) (Or.inl q2156) (Or.inl rfl) dX3_init_73 hw (fun v41 hw => ?_)
  obtain ⟨y42, rfl, hw_y42⟩ := hw
  have hw := hw_y42
  refine r_callS (rest := []) (As := [.ref y42]) C sg_X3_fresh q2152 q2153 q90 q2154 rfl (Nat.le_of_ble_eq_true rfl) dX3_init_76 rfl hp36 hp37 (c_X3_fresh G l y42 h40 _ hw) (k_V (fun h44 hw => ?_))
  exact r_return C dX3_init_79 hp36 hp37 ⟨rfl, hw⟩
def w_X3_thrown (a0 : Nat) (h : Hp) (Q : Int32 → Hp → Prop) : Prop :=
  gfI h a0 2 0 (fun v1 => Q v1 h)
theorem sg_X3_thrown : ySg yX3_thrown 0 = true := by decide +kernel
theorem c_X3_thrown (G : gT) (l : Launch) (a0 : Nat) (h : Hp) (Q : Int32 → Hp → Prop) (hw : w_X3_thrown a0 h Q) : Ct G l yX3_thrown (ws_ yX3_thrown cX3_thrown 1 (some .int)) 1 12 0 0 [.ref a0] h (pI Q) := by
  refine Ct.of (own := RX3) false (by decide +kernel) rfl (show (_ : Nat) ≤ _ from Nat.le_of_ble_eq_true rfl) (fun z => by cases z) (fun V C => ?_)
  show V h 0 0 0 [(0, .ref a0)] []
  unfold w_X3_thrown at hw
  refine r_aload_n C rfl 0 rfl dX3_thrown_0 ?_
  refine r_gfI (k := 0) C kX3 (by decide) (Or.inl q2155) (Or.inl rfl) dX3_thrown_1 hw (fun v1 hw => ?_)
  exact r_ireturn C dX3_thrown_4 (Nat.le_refl _) (Nat.le_refl _) ⟨_, rfl, hw⟩
def w_X3_in (j0 : Int64) (j2 : Int64) (j4 : Int64) (h : Hp) (Q : Bool → Hp → Prop) : Prop :=
  Q (if (lg_cmp j0 j2) < 0 then false else (if 0 < (lg_cmp j0 j4) then false else true)) h
theorem sg_X3_in : ySg yX3_in 3 = true := by decide +kernel
theorem c_X3_in (G : gT) (l : Launch) (j0 : Int64) (j2 : Int64) (j4 : Int64) (h : Hp) (Q : Bool → Hp → Prop) (hw : w_X3_in j0 j2 j4 h Q) : Ct G l yX3_in (ws_ yX3_in cX3_in 6 (some .boolean)) 1 12 0 0 [.long j0, .long j2, .long j4] h (pZ Q) := by
  refine Ct.of (own := RX3) false (by decide +kernel) rfl (show (_ : Nat) ≤ _ from Nat.le_of_ble_eq_true rfl) (fun z => by cases z) (fun V C => ?_)
  show V h 0 0 0 [(0, .long j0), (2, .long j2), (4, .long j4)] []
  unfold w_X3_in at hw
  refine r_lload_n C rfl 0 rfl dX3_in_0 (r_lload_n C rfl 1 rfl dX3_in_1 (r_lcmp C dX3_in_2 ?_))
  have hJ : V h 0 0 18 [] [.int (bI (if (lg_cmp j0 j2) < 0 then false else (if 0 < (lg_cmp j0 j4) then false else true)))] := by
    exact r_zreturn (x := (if (lg_cmp j0 j2) < 0 then false else (if 0 < (lg_cmp j0 j4) then false else true))) C dX3_in_18 (Nat.le_refl _) (Nat.le_refl _) ⟨_, rfl, hw⟩
  refine r_if_lt (tgt := 17) C (by decide) dX3_in_3 (fun hc1 => ?_) (fun hc1 => ?_)
  · have hJ2 := hJ
    try simp only [if_pos hc1] at hJ2
    refine r_iconst (v := (0 : Int32)) C (by decide) dX3_in_17 ?_
    exact r_sub C [] rfl hJ2
  · have hJ2 := hJ
    try simp only [if_neg hc1] at hJ2
    refine r_lload_n C rfl 0 rfl dX3_in_6 (r_lload C 2 rfl dX3_in_7 (r_lcmp C dX3_in_9 ?_))
    refine r_if_gt (tgt := 17) C (by decide) dX3_in_10 (fun hc3 => ?_) (fun hc3 => ?_)
    · have hJ4 := hJ2
      try simp only [if_pos hc3] at hJ4
      refine r_iconst (v := (0 : Int32)) C (by decide) dX3_in_17 ?_
      exact r_sub C [] rfl hJ4
    · have hJ4 := hJ2
      try simp only [if_neg hc3] at hJ4
      refine r_iconst (v := (1 : Int32)) C (by decide) dX3_in_13 (r_goto (tgt := 18) C (by decide) dX3_in_14 ?_)
      exact r_sub C [] rfl hJ4
def w_X3_refused (a0 : Nat) (i1 : Int32) (h : Hp) (Q : Bool → Hp → Prop) : Prop :=
  pf h a0 2 0 (.int i1) (fun h1 => Q (if i1 = 0 then false else true) h1)
theorem sg_X3_refused : ySg yX3_refused 1 = true := by decide +kernel
theorem c_X3_refused (G : gT) (l : Launch) (a0 : Nat) (i1 : Int32) (h : Hp) (Q : Bool → Hp → Prop) (hw : w_X3_refused a0 i1 h Q) : Ct G l yX3_refused (ws_ yX3_refused cX3_refused 2 (some .boolean)) 1 12 0 0 [.ref a0, .int i1] h (pZ Q) := by
  refine Ct.of (own := RX3) false (by decide +kernel) rfl (show (_ : Nat) ≤ _ from Nat.le_of_ble_eq_true rfl) (fun z => by cases z) (fun V C => ?_)
  show V h 0 0 0 [(0, .ref a0), (1, .int i1)] []
  unfold w_X3_refused at hw
  refine r_aload_n C rfl 0 rfl dX3_refused_0 (r_iload_n C rfl 1 rfl dX3_refused_1 ?_)
  refine r_pf (k := 0) (v := .int i1) C kX3 (by decide) (Or.inl q2155) (Or.inl rfl) (Or.inl rfl) rfl rfl dX3_refused_2 hw (fun h1 hw => ?_)
  refine r_iload_n C rfl 1 rfl dX3_refused_5 ?_
  have hJ : V h1 0 0 14 [] [.int (bI (if i1 = 0 then false else true))] := by
    exact r_zreturn (x := (if i1 = 0 then false else true)) C dX3_refused_14 (Nat.le_refl _) (Nat.le_refl _) ⟨_, rfl, hw⟩
  refine r_if_eq (tgt := 13) C (by decide) dX3_refused_6 (fun hc2 => ?_) (fun hc2 => ?_)
  · have hJ3 := hJ
    try simp only [if_pos hc2] at hJ3
    refine r_iconst (v := (0 : Int32)) C (by decide) dX3_refused_13 ?_
    exact r_sub C [] rfl hJ3
  · have hJ3 := hJ
    try simp only [if_neg hc2] at hJ3
    refine r_iconst (v := (1 : Int32)) C (by decide) dX3_refused_9 (r_goto (tgt := 14) C (by decide) dX3_refused_10 ?_)
    exact r_sub C [] rfl hJ3
def B_X3_append_31 (Q : Int32 → Hp → Prop) (h : Hp) (x0 : Nat) (x1 : Int32) (s0 : Nat) (s1 : Int32) : Prop :=
  hasC h s0 2 ∧ (w_X3_refused s0 s1 h (fun r2 h3 => (r2 = false → gfR h3 x0 2 8 (fun v5 => gfI h3 x0 2 9 (fun v6 => nn v5 (fun y8 => wrI h3 y8 v6 x1 (fun h7 => gfI h7 x0 2 9 (fun v9 => pf h7 x0 2 9 (.int (v9 + (1 : Int32))) (fun h10 => gfI h10 x0 2 9 (fun v11 => Q v11 h10)))))))) ∧ (r2 = true → Q (0 : Int32) h3)))
def w_X3_append (a0 : Nat) (i1 : Int32) (h : Hp) (Q : Int32 → Hp → Prop) : Prop :=
  w_X3_in i1.toInt64 (0 : Int64) (255 : Int64) h (fun r12 h13 => (r12 = true → gfI h13 a0 2 9 (fun v15 => B_X3_append_31 Q h13 a0 i1 a0 (if ¬ v15 = (120 : Int32) then (0 : Int32) else (2 : Int32)))) ∧ (r12 = false → B_X3_append_31 Q h13 a0 i1 a0 (1 : Int32)))
theorem b_X3_append_31 {G : gT} {l : Launch} {V : Hp → Nat → Nat → Nat → List (Nat × Value) → List Value → Prop} {Q : Int32 → Hp → Prop} (C : Cx G l V cX3_append 2 RX3 2 37 0 0 (pI Q) none (some .int) [] false) (h : Hp) (x0 : Nat) (x1 : Int32) (s0 : Nat) (s1 : Int32) (hw : B_X3_append_31 Q h x0 x1 s0 s1) : V h 0 0 31 [(0, .ref x0), (1, .int x1)] [.int s1, .ref s0] := by
  unfold B_X3_append_31 at hw
  obtain ⟨hq1, hw⟩ := hw
  refine r_callV (ci := 2) (rest := []) (As := [.int s1]) C sg_X3_refused rfl rfl q2222 q2224 qs38 q90 q2225 rfl (Nat.le_of_ble_eq_true rfl) dX3_append_31 rfl hq1 (Nat.le_refl _) (Nat.le_refl _) (c_X3_refused G l s0 s1 h _ hw) (k_Z (fun r2 h3 hw => ?_))
  refine r_if_eq_b (tgt := 39) C (by decide) dX3_append_34 (fun hc4 => ?_) (fun hc4 => ?_)
  · have hw := hw.1 hc4
    refine r_aload_n C rfl 0 rfl dX3_append_39 ?_
    refine r_gfR (k := 8) C kX3 (by decide) (Or.inl q2163) (Or.inl rfl) dX3_append_40 hw (fun v5 hw => ?_)
    refine r_aload_n C rfl 0 rfl dX3_append_43 ?_
    refine r_gfI (k := 9) C kX3 (by decide) (Or.inl q2164) (Or.inl rfl) dX3_append_44 hw (fun v6 hw => ?_)
    refine r_iload_n C rfl 1 rfl dX3_append_47 ?_
    obtain ⟨y8, rfl, hw_y8⟩ := hw
    have hw := hw_y8
    refine r_iastore C dX3_append_48 hw (fun h7 hw => ?_)
    refine r_aload_n C rfl 0 rfl dX3_append_49 (r_dup C rfl dX3_append_50 ?_)
    refine r_gfI (k := 9) C kX3 (by decide) (Or.inl q2164) (Or.inl rfl) dX3_append_51 hw (fun v9 hw => ?_)
    refine r_iconst (v := (1 : Int32)) C (by decide) dX3_append_54 (r_iadd C dX3_append_55 ?_)
    refine r_pf (k := 9) (v := .int (v9 + (1 : Int32))) C kX3 (by decide) (Or.inl q2164) (Or.inl rfl) (Or.inl rfl) rfl rfl dX3_append_56 hw (fun h10 hw => ?_)
    refine r_aload_n C rfl 0 rfl dX3_append_59 ?_
    refine r_gfI (k := 9) C kX3 (by decide) (Or.inl q2164) (Or.inl rfl) dX3_append_60 hw (fun v11 hw => ?_)
    exact r_ireturn C dX3_append_63 (Nat.le_refl _) (Nat.le_refl _) ⟨_, rfl, hw⟩
  · have hw := hw.2 hc4
    refine r_iconst (v := (0 : Int32)) C (by decide) dX3_append_37 ?_
    exact r_ireturn C dX3_append_38 (Nat.le_refl _) (Nat.le_refl _) ⟨_, rfl, hw⟩
theorem sg_X3_append : ySg yX3_append 1 = true := by decide +kernel
theorem c_X3_append (G : gT) (l : Launch) (a0 : Nat) (i1 : Int32) (h : Hp) (Q : Int32 → Hp → Prop) (hw : w_X3_append a0 i1 h Q) : Ct G l yX3_append (ws_ yX3_append cX3_append 2 (some .int)) 2 37 0 0 [.ref a0, .int i1] h (pI Q) := by
  refine Ct.of (own := RX3) false (by decide +kernel) rfl (show (_ : Nat) ≤ _ from Nat.le_of_ble_eq_true rfl) (fun z => by cases z) (fun V C => ?_)
  show V h 0 0 0 [(0, .ref a0), (1, .int i1)] []
  unfold w_X3_append at hw
  refine r_aload_n C rfl 0 rfl dX3_append_0 (r_iload_n C rfl 1 rfl dX3_append_1 (r_i2l C dX3_append_2 (r_lconst (v := (0 : Int64)) C (by decide) dX3_append_3 (r_ldc2 (v := (255 : Int64)) C q2218 dX3_append_4 ?_))))
  refine r_callS (rest := [.ref a0]) (As := [.long i1.toInt64, .long (0 : Int64), .long (255 : Int64)]) C sg_X3_in q2219 q2220 q90 q2221 rfl (Nat.le_of_ble_eq_true rfl) dX3_append_7 rfl (Nat.le_refl _) (Nat.le_refl _) (c_X3_in G l i1.toInt64 (0 : Int64) (255 : Int64) h _ hw) (k_Z (fun r12 h13 hw => ?_))
  refine r_if_ne_b (tgt := 17) C (by decide) dX3_append_10 (fun hc14 => ?_) (fun hc14 => ?_)
  · have hw := hw.1 hc14
    refine r_aload_n C rfl 0 rfl dX3_append_17 ?_
    refine r_gfI (k := 9) C kX3 (by decide) (Or.inl q2164) (Or.inl rfl) dX3_append_18 hw (fun v15 hw => ?_)
    refine r_bipush (v := (120 : Int32)) C (by decide) dX3_append_21 ?_
    have hJ : V h13 0 0 31 [(0, .ref a0), (1, .int i1)] [.int (if ¬ v15 = (120 : Int32) then (0 : Int32) else (2 : Int32)), .ref a0] := by
      exact r_sub C [0, 1] rfl (b_X3_append_31 C _ _ _ _ _ hw)
    refine r_icmp_ne (tgt := 30) C (by decide) dX3_append_23 (fun hc16 => ?_) (fun hc16 => ?_)
    · have hJ17 := hJ
      try simp only [if_pos hc16] at hJ17
      refine r_iconst (v := (0 : Int32)) C (by decide) dX3_append_30 ?_
      exact r_sub C [0, 1] rfl hJ17
    · have hJ17 := hJ
      try simp only [if_neg (show ¬ ¬ v15 = (120 : Int32) from fun z => z hc16)] at hJ17
      refine r_iconst (v := (2 : Int32)) C (by decide) dX3_append_26 (r_goto (tgt := 31) C (by decide) dX3_append_27 ?_)
      exact r_sub C [0, 1] rfl hJ17
  · have hw := hw.2 hc14
    refine r_iconst (v := (1 : Int32)) C (by decide) dX3_append_13 (r_goto (tgt := 31) C (by decide) dX3_append_14 ?_)
    exact r_sub C [0, 1] rfl (b_X3_append_31 C _ _ _ _ _ hw)
def w_X3_clearText (a0 : Nat) (h : Hp) (Q : Int32 → Hp → Prop) : Prop :=
  pf h a0 2 0 (.int (0 : Int32)) (fun h1 => gfI h1 a0 2 9 (fun v2 => pf h1 a0 2 9 (.int (0 : Int32)) (fun h3 => Q v2 h3)))
theorem sg_X3_clearText : ySg yX3_clearText 0 = true := by decide +kernel
theorem c_X3_clearText (G : gT) (l : Launch) (a0 : Nat) (h : Hp) (Q : Int32 → Hp → Prop) (hw : w_X3_clearText a0 h Q) : Ct G l yX3_clearText (ws_ yX3_clearText cX3_clearText 2 (some .int)) 1 12 0 0 [.ref a0] h (pI Q) := by
  refine Ct.of (own := RX3) false (by decide +kernel) rfl (show (_ : Nat) ≤ _ from Nat.le_of_ble_eq_true rfl) (fun z => by cases z) (fun V C => ?_)
  show V h 0 0 0 [(0, .ref a0)] []
  unfold w_X3_clearText at hw
  refine r_aload_n C rfl 0 rfl dX3_clearText_0 (r_iconst (v := (0 : Int32)) C (by decide) dX3_clearText_1 ?_)
  refine r_pf (k := 0) (v := .int (0 : Int32)) C kX3 (by decide) (Or.inl q2155) (Or.inl rfl) (Or.inl rfl) rfl rfl dX3_clearText_2 hw (fun h1 hw => ?_)
  refine r_aload_n C rfl 0 rfl dX3_clearText_5 ?_
  refine r_gfI (k := 9) C kX3 (by decide) (Or.inl q2164) (Or.inl rfl) dX3_clearText_6 hw (fun v2 hw => ?_)
  refine r_istore_n (L' := [(1, .int v2), (0, .ref a0)]) C rfl (by decide) rfl dX3_clearText_9 (r_aload_n C rfl 1 rfl dX3_clearText_10 (r_iconst (v := (0 : Int32)) C (by decide) dX3_clearText_11 ?_))
  refine r_pf (k := 9) (v := .int (0 : Int32)) C kX3 (by decide) (Or.inl q2164) (Or.inl rfl) (Or.inl rfl) rfl rfl dX3_clearText_12 hw (fun h3 hw => ?_)
  refine r_iload_n C rfl 0 rfl dX3_clearText_15 ?_
  exact r_ireturn C dX3_clearText_16 (Nat.le_refl _) (Nat.le_refl _) ⟨_, rfl, hw⟩
def w_X3_here (a0 : Nat) (h : Hp) (Q : Int32 → Hp → Prop) : Prop :=
  gfI h a0 2 10 (fun v1 => gfI h a0 2 9 (fun v2 => (v2 ≤ v1 → Q (-1 : Int32) h) ∧ (¬ v2 ≤ v1 → gfR h a0 2 8 (fun v4 => gfI h a0 2 10 (fun v5 => nn v4 (fun y6 => rdI h y6 v5 (fun v7 => Q v7 h)))))))
theorem sg_X3_here : ySg yX3_here 0 = true := by decide +kernel
theorem c_X3_here (G : gT) (l : Launch) (a0 : Nat) (h : Hp) (Q : Int32 → Hp → Prop) (hw : w_X3_here a0 h Q) : Ct G l yX3_here (ws_ yX3_here cX3_here 1 (some .int)) 1 12 0 0 [.ref a0] h (pI Q) := by
  refine Ct.of (own := RX3) false (by decide +kernel) rfl (show (_ : Nat) ≤ _ from Nat.le_of_ble_eq_true rfl) (fun z => by cases z) (fun V C => ?_)
  show V h 0 0 0 [(0, .ref a0)] []
  unfold w_X3_here at hw
  refine r_aload_n C rfl 0 rfl dX3_here_0 ?_
  refine r_gfI (k := 10) C kX3 (by decide) (Or.inl q2165) (Or.inl rfl) dX3_here_1 hw (fun v1 hw => ?_)
  refine r_aload_n C rfl 0 rfl dX3_here_4 ?_
  refine r_gfI (k := 9) C kX3 (by decide) (Or.inl q2164) (Or.inl rfl) dX3_here_5 hw (fun v2 hw => ?_)
  refine r_icmp_ge (tgt := 23) C (by decide) dX3_here_8 (fun hc3 => ?_) (fun hc3 => ?_)
  · have hw := hw.1 hc3
    refine r_iconst (v := (-1 : Int32)) C (by decide) dX3_here_23 ?_
    exact r_ireturn C dX3_here_24 (Nat.le_refl _) (Nat.le_refl _) ⟨_, rfl, hw⟩
  · have hw := hw.2 hc3
    refine r_aload_n C rfl 0 rfl dX3_here_11 ?_
    refine r_gfR (k := 8) C kX3 (by decide) (Or.inl q2163) (Or.inl rfl) dX3_here_12 hw (fun v4 hw => ?_)
    refine r_aload_n C rfl 0 rfl dX3_here_15 ?_
    refine r_gfI (k := 10) C kX3 (by decide) (Or.inl q2165) (Or.inl rfl) dX3_here_16 hw (fun v5 hw => ?_)
    obtain ⟨y6, rfl, hw_y6⟩ := hw
    have hw := hw_y6
    refine r_iaload C dX3_here_19 hw (fun v7 hw => ?_)
    refine r_goto (tgt := 24) C (by decide) dX3_here_20 ?_
    exact r_ireturn C dX3_here_24 (Nat.le_refl _) (Nat.le_refl _) ⟨_, rfl, hw⟩
def w_X3_eat (a0 : Nat) (b1 : Bool) (h : Hp) (Q : Hp → Prop) : Prop :=
  gfZ h a0 2 11 (fun v1 => pf h a0 2 11 (.int (bI (if v1 = false then false else (if b1 = false then false else true)))) (fun h2 => gfI h2 a0 2 10 (fun v3 => gfZ h2 a0 2 11 (fun v4 => pf h2 a0 2 10 (.int (v3 + (bI (if v4 = false then false else true)))) (fun h5 => Q h5)))))
theorem sg_X3_eat : ySg yX3_eat 1 = true := by decide +kernel
theorem c_X3_eat (G : gT) (l : Launch) (a0 : Nat) (b1 : Bool) (h : Hp) (Q : Hp → Prop) (hw : w_X3_eat a0 b1 h Q) : Ct G l yX3_eat (ws_ yX3_eat cX3_eat 2 (none)) 1 12 0 0 [.ref a0, .int (bI b1)] h (pV Q) := by
  refine Ct.of (own := RX3) false (by decide +kernel) rfl (show (_ : Nat) ≤ _ from Nat.le_of_ble_eq_true rfl) (fun z => by cases z) (fun V C => ?_)
  show V h 0 0 0 [(0, .ref a0), (1, .int (bI b1))] []
  unfold w_X3_eat at hw
  refine r_aload_n C rfl 0 rfl dX3_eat_0 (r_aload_n C rfl 0 rfl dX3_eat_1 ?_)
  refine r_gfZ (k := 11) C kX3 (by decide) (Or.inl q2166) (Or.inl rfl) dX3_eat_2 hw (fun v1 hw => ?_)
  have hJ : V h 0 0 17 [(0, .ref a0)] [.int (bI (if v1 = false then false else (if b1 = false then false else true))), .ref a0] := by
    refine r_pf (k := 11) (v := .int (bI (if v1 = false then false else (if b1 = false then false else true)))) C kX3 (by decide) (Or.inl q2166) (Or.inl rfl) (Or.inl rfl) (n_bI _) (f_bI _) dX3_eat_17 hw (fun h2 hw => ?_)
    refine r_aload_n C rfl 0 rfl dX3_eat_20 (r_dup C rfl dX3_eat_21 ?_)
    refine r_gfI (k := 10) C kX3 (by decide) (Or.inl q2165) (Or.inl rfl) dX3_eat_22 hw (fun v3 hw => ?_)
    refine r_aload_n C rfl 0 rfl dX3_eat_25 ?_
    refine r_gfZ (k := 11) C kX3 (by decide) (Or.inl q2166) (Or.inl rfl) dX3_eat_26 hw (fun v4 hw => ?_)
    have hJ : V h2 0 0 37 [] [.int (bI (if v4 = false then false else true)), .int v3, .ref a0] := by
      refine r_iadd C dX3_eat_37 ?_
      refine r_pf (k := 10) (v := .int (v3 + (bI (if v4 = false then false else true)))) C kX3 (by decide) (Or.inl q2165) (Or.inl rfl) (Or.inl rfl) rfl rfl dX3_eat_38 hw (fun h5 hw => ?_)
      exact r_return C dX3_eat_41 (Nat.le_refl _) (Nat.le_refl _) ⟨rfl, hw⟩
    refine r_if_eq_b (tgt := 36) C (by decide) dX3_eat_29 (fun hc6 => ?_) (fun hc6 => ?_)
    · have hJ7 := hJ
      try simp only [if_pos hc6] at hJ7
      refine r_iconst (v := (0 : Int32)) C (by decide) dX3_eat_36 ?_
      exact r_sub C [] rfl hJ7
    · have hJ7 := hJ
      try simp only [if_neg (show ¬ v4 = false from by rw [hc6]; decide)] at hJ7
      refine r_iconst (v := (1 : Int32)) C (by decide) dX3_eat_32 (r_goto (tgt := 37) C (by decide) dX3_eat_33 ?_)
      exact r_sub C [] rfl hJ7
  refine r_if_eq_b (tgt := 16) C (by decide) dX3_eat_5 (fun hc8 => ?_) (fun hc8 => ?_)
  · have hJ9 := hJ
    try simp only [if_pos hc8] at hJ9
    refine r_iconst (v := (0 : Int32)) C (by decide) dX3_eat_16 ?_
    exact r_sub C [0] rfl hJ9
  · have hJ9 := hJ
    try simp only [if_neg (show ¬ v1 = false from by rw [hc8]; decide)] at hJ9
    refine r_iload_n C rfl 1 rfl dX3_eat_8 ?_
    refine r_if_eq_b (tgt := 16) C (by decide) dX3_eat_9 (fun hc10 => ?_) (fun hc10 => ?_)
    · have hJ11 := hJ9
      try simp only [if_pos hc10] at hJ11
      refine r_iconst (v := (0 : Int32)) C (by decide) dX3_eat_16 ?_
      exact r_sub C [0] rfl hJ11
    · have hJ11 := hJ9
      try simp only [if_neg (show ¬ b1 = false from by rw [hc10]; decide)] at hJ11
      refine r_iconst (v := (1 : Int32)) C (by decide) dX3_eat_12 (r_goto (tgt := 17) C (by decide) dX3_eat_13 ?_)
      exact r_sub C [0] rfl hJ11
def w_X3_digit (a0 : Nat) (i1 : Int32) (i2 : Int32) (h : Hp) (Q : Int32 → Hp → Prop) : Prop :=
  hasC h a0 2 ∧ (w_X3_here a0 h (fun r2 h3 => w_X3_in ((r2 - (48 : Int32)).toInt64) i1.toInt64 i2.toInt64 h3 (fun r4 h5 => hasC h5 a0 2 ∧ (w_X3_eat a0 r4 h5 (fun h8 => gfZ h8 a0 2 11 (fun v9 => Q (if v9 = false then i1 else r2 - (48 : Int32)) h8))))))
theorem sg_X3_digit : ySg yX3_digit 2 = true := by decide +kernel
theorem c_X3_digit (G : gT) (l : Launch) (a0 : Nat) (i1 : Int32) (i2 : Int32) (h : Hp) (Q : Int32 → Hp → Prop) (hw : w_X3_digit a0 i1 i2 h Q) : Ct G l yX3_digit (ws_ yX3_digit cX3_digit 4 (some .int)) 2 37 0 0 [.ref a0, .int i1, .int i2] h (pI Q) := by
  refine Ct.of (own := RX3) false (by decide +kernel) rfl (show (_ : Nat) ≤ _ from Nat.le_of_ble_eq_true rfl) (fun z => by cases z) (fun V C => ?_)
  show V h 0 0 0 [(0, .ref a0), (1, .int i1), (2, .int i2)] []
  unfold w_X3_digit at hw
  refine r_aload_n C rfl 0 rfl dX3_digit_0 ?_
  obtain ⟨hq1, hw⟩ := hw
  refine r_callV (ci := 2) (rest := []) (As := []) C sg_X3_here rfl rfl q2242 q2244 qs41 q90 q2245 rfl (Nat.le_of_ble_eq_true rfl) dX3_digit_1 rfl hq1 (Nat.le_refl _) (Nat.le_refl _) (c_X3_here G l a0 h _ hw) (k_I (fun r2 h3 hw => ?_))
  refine r_bipush (v := (48 : Int32)) C (by decide) dX3_digit_4 (r_isub C dX3_digit_6 (r_istore_n (L' := [(3, .int (r2 - (48 : Int32))), (0, .ref a0), (1, .int i1), (2, .int i2)]) C rfl (by decide) rfl dX3_digit_7 (r_aload_n C rfl 1 rfl dX3_digit_8 (r_iload_n C rfl 0 rfl dX3_digit_9 (r_i2l C dX3_digit_10 ?_)))))
  refine r_iload_n C rfl 2 rfl dX3_digit_11 (r_i2l C dX3_digit_12 (r_iload_n C rfl 3 rfl dX3_digit_13 (r_i2l C dX3_digit_14 ?_)))
  refine r_callS (rest := [.ref a0]) (As := [.long ((r2 - (48 : Int32)).toInt64), .long i1.toInt64, .long i2.toInt64]) C sg_X3_in q2219 q2220 q90 q2221 rfl (Nat.le_of_ble_eq_true rfl) dX3_digit_15 rfl (Nat.le_refl _) (Nat.le_refl _) (c_X3_in G l ((r2 - (48 : Int32)).toInt64) i1.toInt64 i2.toInt64 h3 _ hw) (k_Z (fun r4 h5 hw => ?_))
  obtain ⟨hq6, hw⟩ := hw
  refine r_callV (ci := 2) (rest := []) (As := [.int (bI r4)]) C sg_X3_eat rfl rfl q2246 q2248 qs42 q90 q2249 rfl (Nat.le_of_ble_eq_true rfl) dX3_digit_18 rfl hq6 (Nat.le_refl _) (Nat.le_refl _) (c_X3_eat G l a0 r4 h5 _ hw) (k_V (fun h8 hw => ?_))
  refine r_aload_n C rfl 1 rfl dX3_digit_21 ?_
  refine r_gfZ (k := 11) C kX3 (by decide) (Or.inl q2166) (Or.inl rfl) dX3_digit_22 hw (fun v9 hw => ?_)
  have hJ : V h8 0 0 33 [] [.int (if v9 = false then i1 else r2 - (48 : Int32))] := by
    exact r_ireturn C dX3_digit_33 (Nat.le_refl _) (Nat.le_refl _) ⟨_, rfl, hw⟩
  refine r_if_eq_b (tgt := 32) C (by decide) dX3_digit_25 (fun hc10 => ?_) (fun hc10 => ?_)
  · have hJ11 := hJ
    try simp only [if_pos hc10] at hJ11
    refine r_iload_n C rfl 2 rfl dX3_digit_32 ?_
    exact r_sub C [] rfl hJ11
  · have hJ11 := hJ
    try simp only [if_neg (show ¬ v9 = false from by rw [hc10]; decide)] at hJ11
    refine r_iload_n C rfl 0 rfl dX3_digit_28 (r_goto (tgt := 33) C (by decide) dX3_digit_29 ?_)
    exact r_sub C [] rfl hJ11
def S_X3_ascending_5 (Q : Int32 → Hp → Prop) (LA5 : Hp → Nat → Int32 → Int32 → Int32 → Prop) (h : Hp) (x0 : Nat) (x2 : Int32) (x3 : Int32) (x4 : Int32) : Prop :=
  gfZ h x0 2 11 (fun v1 => (v1 = false → Q x3 h) ∧ (v1 = true → gfI h x0 2 10 (fun v3 => gfI h x0 2 9 (fun v4 => (v4 ≤ v3 → Q x3 h) ∧ (¬ v4 ≤ v3 → hasC h x0 2 ∧ (w_X3_here x0 h (fun r7 h8 => (r7 = (59 : Int32) → Q x3 h8) ∧ (¬ r7 = (59 : Int32) → hasC h8 x0 2 ∧ (w_X3_digit x0 x4 x2 h8 (fun r11 h12 => gfZ h12 x0 2 11 (fun v13 => LA5 h12 x0 x2 (x3 ||| (if v13 = false then (0 : Int32) else (1 : Int32) <<< (r11 &&& 31))) (r11 + (1 : Int32)))))))))))))
def B_X3_ascending_5 (Q : Int32 → Hp → Prop) : Nat → Hp → Nat → Int32 → Int32 → Int32 → Prop
  | 0, _, _, _, _, _ => False
  | k + 1, h, x0, x2, x3, x4 => S_X3_ascending_5 Q (B_X3_ascending_5 Q k) h x0 x2 x3 x4
def w_X3_ascending (a0 : Nat) (i1 : Int32) (i2 : Int32) (h : Hp) (Q : Int32 → Hp → Prop) : Prop :=
  ∃ k9 : Nat, B_X3_ascending_5 Q k9 h a0 i2 (0 : Int32) i1
theorem s_X3_ascending_5 {G : gT} {l : Launch} {V : Hp → Nat → Nat → Nat → List (Nat × Value) → List Value → Prop} {Q : Int32 → Hp → Prop} (C : Cx G l V cX3_ascending 6 RX3 3 60 0 0 (pI Q) none (some .int) [] false) (LA5 : Hp → Nat → Int32 → Int32 → Int32 → Prop) (hLA5 : ∀ (h : Hp) (x0 : Nat) (x2 : Int32) (x3 : Int32) (x4 : Int32), LA5 h x0 x2 x3 x4 → V h 0 0 5 [(0, .ref x0), (2, .int x2), (3, .int x3), (4, .int x4)] []) (h : Hp) (x0 : Nat) (x2 : Int32) (x3 : Int32) (x4 : Int32) (hw : S_X3_ascending_5 Q LA5 h x0 x2 x3 x4) : V h 0 0 5 [(0, .ref x0), (2, .int x2), (3, .int x3), (4, .int x4)] [] := by
  unfold S_X3_ascending_5 at hw
  refine r_aload_n C rfl 0 rfl dX3_ascending_5 ?_
  refine r_gfZ (k := 11) C kX3 (by decide) (Or.inl q2166) (Or.inl rfl) dX3_ascending_6 hw (fun v1 hw => ?_)
  refine r_if_eq_b (tgt := 68) C (by decide) dX3_ascending_9 (fun hc2 => ?_) (fun hc2 => ?_)
  · have hw := hw.1 hc2
    refine r_iload_n C rfl 2 rfl dX3_ascending_68 ?_
    exact r_ireturn C dX3_ascending_69 (Nat.le_refl _) (Nat.le_refl _) ⟨_, rfl, hw⟩
  · have hw := hw.2 hc2
    refine r_aload_n C rfl 0 rfl dX3_ascending_12 ?_
    refine r_gfI (k := 10) C kX3 (by decide) (Or.inl q2165) (Or.inl rfl) dX3_ascending_13 hw (fun v3 hw => ?_)
    refine r_aload_n C rfl 0 rfl dX3_ascending_16 ?_
    refine r_gfI (k := 9) C kX3 (by decide) (Or.inl q2164) (Or.inl rfl) dX3_ascending_17 hw (fun v4 hw => ?_)
    refine r_icmp_ge (tgt := 68) C (by decide) dX3_ascending_20 (fun hc5 => ?_) (fun hc5 => ?_)
    · have hw := hw.1 hc5
      refine r_iload_n C rfl 2 rfl dX3_ascending_68 ?_
      exact r_ireturn C dX3_ascending_69 (Nat.le_refl _) (Nat.le_refl _) ⟨_, rfl, hw⟩
    · have hw := hw.2 hc5
      refine r_aload_n C rfl 0 rfl dX3_ascending_23 ?_
      obtain ⟨hq6, hw⟩ := hw
      refine r_callV (ci := 2) (rest := []) (As := []) C sg_X3_here rfl rfl q2242 q2244 qs41 q90 q2245 rfl (Nat.le_of_ble_eq_true rfl) dX3_ascending_24 rfl hq6 (Nat.le_refl _) (Nat.le_refl _) (c_X3_here G l x0 h _ hw) (k_I (fun r7 h8 hw => ?_))
      refine r_bipush (v := (59 : Int32)) C (by decide) dX3_ascending_27 ?_
      refine r_icmp_eq (tgt := 68) C (by decide) dX3_ascending_29 (fun hc9 => ?_) (fun hc9 => ?_)
      · have hw := hw.1 hc9
        refine r_iload_n C rfl 2 rfl dX3_ascending_68 ?_
        exact r_ireturn C dX3_ascending_69 (Nat.le_refl _) (Nat.le_refl _) ⟨_, rfl, hw⟩
      · have hw := hw.2 hc9
        refine r_aload_n C rfl 0 rfl dX3_ascending_32 (r_iload C 3 rfl dX3_ascending_33 (r_iload_n C rfl 1 rfl dX3_ascending_35 ?_))
        obtain ⟨hq10, hw⟩ := hw
        refine r_callV (ci := 2) (rest := []) (As := [.int x4, .int x2]) C sg_X3_digit rfl rfl q2258 q2260 qs45 q90 q2261 rfl (Nat.le_of_ble_eq_true rfl) dX3_ascending_36 rfl hq10 (Nat.le_refl _) (Nat.le_refl _) (c_X3_digit G l x0 x4 x2 h8 _ hw) (k_I (fun r11 h12 hw => ?_))
        refine r_istore (L' := [(5, .int r11), (0, .ref x0), (2, .int x2), (3, .int x3), (4, .int x4)]) C (by decide) rfl dX3_ascending_39 (r_iload_n C rfl 3 rfl dX3_ascending_41 (r_aload_n C rfl 1 rfl dX3_ascending_42 ?_))
        refine r_gfZ (k := 11) C kX3 (by decide) (Or.inl q2166) (Or.inl rfl) dX3_ascending_43 hw (fun v13 hw => ?_)
        have hJ : V h12 0 0 57 [(5, .int r11), (0, .ref x0), (2, .int x2)] [.int (if v13 = false then (0 : Int32) else (1 : Int32) <<< (r11 &&& 31)), .int x3] := by
          refine r_ior C dX3_ascending_57 (r_istore_n (L' := [(3, .int (x3 ||| (if v13 = false then (0 : Int32) else (1 : Int32) <<< (r11 &&& 31)))), (5, .int r11), (0, .ref x0), (2, .int x2)]) C rfl (by decide) rfl dX3_ascending_58 (r_iload C 1 rfl dX3_ascending_59 (r_iconst (v := (1 : Int32)) C (by decide) dX3_ascending_61 (r_iadd C dX3_ascending_62 (r_istore (L' := [(4, .int (r11 + (1 : Int32))), (3, .int (x3 ||| (if v13 = false then (0 : Int32) else (1 : Int32) <<< (r11 &&& 31)))), (5, .int r11), (0, .ref x0), (2, .int x2)]) C (by decide) rfl dX3_ascending_63 ?_)))))
          refine r_goto (tgt := 5) C (by decide) dX3_ascending_65 ?_
          exact r_sub C [3, 4, 1, 0] rfl (hLA5 _ _ _ _ _ hw)
        refine r_if_eq_b (tgt := 56) C (by decide) dX3_ascending_46 (fun hc14 => ?_) (fun hc14 => ?_)
        · have hJ15 := hJ
          try simp only [if_pos hc14] at hJ15
          refine r_iconst (v := (0 : Int32)) C (by decide) dX3_ascending_56 ?_
          exact r_sub C [0, 1, 2] rfl hJ15
        · have hJ15 := hJ
          try simp only [if_neg (show ¬ v13 = false from by rw [hc14]; decide)] at hJ15
          refine r_iconst (v := (1 : Int32)) C (by decide) dX3_ascending_49 (r_iload C 0 rfl dX3_ascending_50 (r_ishl C dX3_ascending_52 (r_goto (tgt := 57) C (by decide) dX3_ascending_53 ?_)))
          exact r_sub C [0, 1, 2] rfl hJ15
theorem b_X3_ascending_5 {G : gT} {l : Launch} {V : Hp → Nat → Nat → Nat → List (Nat × Value) → List Value → Prop} {Q : Int32 → Hp → Prop} (C : Cx G l V cX3_ascending 6 RX3 3 60 0 0 (pI Q) none (some .int) [] false) : ∀ (k : Nat) (h : Hp) (x0 : Nat) (x2 : Int32) (x3 : Int32) (x4 : Int32), B_X3_ascending_5 Q k h x0 x2 x3 x4 → V h 0 0 5 [(0, .ref x0), (2, .int x2), (3, .int x3), (4, .int x4)] [] := by
  intro k
  induction k with
  | zero =>
    intro h x0 x2 x3 x4 hw
    exact hw.elim
  | succ k ih =>
    intro h x0 x2 x3 x4 hw
    exact s_X3_ascending_5 C _ (fun h x0 x2 x3 x4 hw => ih h x0 x2 x3 x4 hw) h x0 x2 x3 x4 hw
theorem sg_X3_ascending : ySg yX3_ascending 2 = true := by decide +kernel
theorem c_X3_ascending (G : gT) (l : Launch) (a0 : Nat) (i1 : Int32) (i2 : Int32) (h : Hp) (Q : Int32 → Hp → Prop) (hw : w_X3_ascending a0 i1 i2 h Q) : Ct G l yX3_ascending (ws_ yX3_ascending cX3_ascending 6 (some .int)) 3 60 0 0 [.ref a0, .int i1, .int i2] h (pI Q) := by
  refine Ct.of (own := RX3) false (by decide +kernel) rfl (show (_ : Nat) ≤ _ from Nat.le_of_ble_eq_true rfl) (fun z => by cases z) (fun V C => ?_)
  show V h 0 0 0 [(0, .ref a0), (1, .int i1), (2, .int i2)] []
  unfold w_X3_ascending at hw
  refine r_iconst (v := (0 : Int32)) C (by decide) dX3_ascending_0 (r_istore_n (L' := [(3, .int (0 : Int32)), (0, .ref a0), (1, .int i1), (2, .int i2)]) C rfl (by decide) rfl dX3_ascending_1 (r_iload_n C rfl 2 rfl dX3_ascending_2 (r_istore (L' := [(4, .int i1), (3, .int (0 : Int32)), (0, .ref a0), (1, .int i1), (2, .int i2)]) C (by decide) rfl dX3_ascending_3 ?_)))
  obtain ⟨k9, hw⟩ := hw
  exact r_sub C [2, 4, 1, 0] rfl (b_X3_ascending_5 C _ _ _ _ _ _ hw)
def w_X3_hasDie (a0 : Nat) (i1 : Int32) (h : Hp) (Q : Bool → Hp → Prop) : Prop :=
  rdI h a0 (1 : Int32) (fun v1 => w_X3_in i1.toInt64 (0 : Int64) ((v1 - (1 : Int32)).toInt64) h (fun r2 h3 => Q r2 h3))
theorem sg_X3_hasDie : ySg yX3_hasDie 2 = true := by decide +kernel
theorem c_X3_hasDie (G : gT) (l : Launch) (a0 : Nat) (i1 : Int32) (h : Hp) (Q : Bool → Hp → Prop) (hw : w_X3_hasDie a0 i1 h Q) : Ct G l yX3_hasDie (ws_ yX3_hasDie cX3_hasDie 2 (some .boolean)) 2 37 0 0 [.ref a0, .int i1] h (pZ Q) := by
  refine Ct.of (own := RX3) false (by decide +kernel) rfl (show (_ : Nat) ≤ _ from Nat.le_of_ble_eq_true rfl) (fun z => by cases z) (fun V C => ?_)
  show V h 0 0 0 [(0, .ref a0), (1, .int i1)] []
  unfold w_X3_hasDie at hw
  refine r_iload_n C rfl 1 rfl dX3_hasDie_0 (r_i2l C dX3_hasDie_1 (r_lconst (v := (0 : Int64)) C (by decide) dX3_hasDie_2 (r_aload_n C rfl 0 rfl dX3_hasDie_3 (r_iconst (v := (1 : Int32)) C (by decide) dX3_hasDie_4 ?_))))
  refine r_iaload C dX3_hasDie_5 hw (fun v1 hw => ?_)
  refine r_iconst (v := (1 : Int32)) C (by decide) dX3_hasDie_6 (r_isub C dX3_hasDie_7 (r_i2l C dX3_hasDie_8 ?_))
  refine r_callS (rest := []) (As := [.long i1.toInt64, .long (0 : Int64), .long ((v1 - (1 : Int32)).toInt64)]) C sg_X3_in q2219 q2220 q90 q2221 rfl (Nat.le_of_ble_eq_true rfl) dX3_hasDie_9 rfl (Nat.le_refl _) (Nat.le_refl _) (c_X3_in G l i1.toInt64 (0 : Int64) ((v1 - (1 : Int32)).toInt64) h _ hw) (k_Z (fun r2 h3 hw => ?_))
  exact r_zreturn (x := r2) C dX3_hasDie_12 (Nat.le_refl _) (Nat.le_refl _) ⟨_, rfl, hw⟩
def w_X3_areCracks (a0 : Nat) (i1 : Int32) (i2 : Int32) (h : Hp) (Q : Bool → Hp → Prop) : Prop :=
  rdI h a0 ((55 : Int32) + i1) (fun v1 => w_X3_in i2.toInt64 (0 : Int64) ((((1 : Int32) <<< (v1 &&& 31)) - (1 : Int32)).toInt64) h (fun r2 h3 => Q r2 h3))
theorem sg_X3_areCracks : ySg yX3_areCracks 3 = true := by decide +kernel
theorem c_X3_areCracks (G : gT) (l : Launch) (a0 : Nat) (i1 : Int32) (i2 : Int32) (h : Hp) (Q : Bool → Hp → Prop) (hw : w_X3_areCracks a0 i1 i2 h Q) : Ct G l yX3_areCracks (ws_ yX3_areCracks cX3_areCracks 3 (some .boolean)) 2 37 0 0 [.ref a0, .int i1, .int i2] h (pZ Q) := by
  refine Ct.of (own := RX3) false (by decide +kernel) rfl (show (_ : Nat) ≤ _ from Nat.le_of_ble_eq_true rfl) (fun z => by cases z) (fun V C => ?_)
  show V h 0 0 0 [(0, .ref a0), (1, .int i1), (2, .int i2)] []
  unfold w_X3_areCracks at hw
  refine r_iload_n C rfl 2 rfl dX3_areCracks_0 (r_i2l C dX3_areCracks_1 (r_lconst (v := (0 : Int64)) C (by decide) dX3_areCracks_2 (r_iconst (v := (1 : Int32)) C (by decide) dX3_areCracks_3 (r_aload_n C rfl 0 rfl dX3_areCracks_4 (r_bipush (v := (55 : Int32)) C (by decide) dX3_areCracks_5 ?_)))))
  refine r_iload_n C rfl 1 rfl dX3_areCracks_7 (r_iadd C dX3_areCracks_8 ?_)
  refine r_iaload C dX3_areCracks_9 hw (fun v1 hw => ?_)
  refine r_ishl C dX3_areCracks_10 (r_iconst (v := (1 : Int32)) C (by decide) dX3_areCracks_11 (r_isub C dX3_areCracks_12 (r_i2l C dX3_areCracks_13 ?_)))
  refine r_callS (rest := []) (As := [.long i2.toInt64, .long (0 : Int64), .long ((((1 : Int32) <<< (v1 &&& 31)) - (1 : Int32)).toInt64)]) C sg_X3_in q2219 q2220 q90 q2221 rfl (Nat.le_of_ble_eq_true rfl) dX3_areCracks_14 rfl (Nat.le_refl _) (Nat.le_refl _) (c_X3_in G l i2.toInt64 (0 : Int64) ((((1 : Int32) <<< (v1 &&& 31)) - (1 : Int32)).toInt64) h _ hw) (k_Z (fun r2 h3 hw => ?_))
  exact r_zreturn (x := r2) C dX3_areCracks_17 (Nat.le_refl _) (Nat.le_refl _) ⟨_, rfl, hw⟩
def w_X3_goes (a0 : Nat) (b1 : Bool) (h : Hp) (Q : Bool → Hp → Prop) : Prop :=
  gfI h a0 2 12 (fun v1 => gfZ h a0 2 11 (fun v2 => pf h a0 2 12 (.int (v1 + (bI (if v2 = false then false else (if b1 = true then false else true))))) (fun h3 => gfZ h3 a0 2 11 (fun v4 => Q (if v4 = false then false else (if b1 = false then false else true)) h3))))
theorem sg_X3_goes : ySg yX3_goes 1 = true := by decide +kernel
theorem c_X3_goes (G : gT) (l : Launch) (a0 : Nat) (b1 : Bool) (h : Hp) (Q : Bool → Hp → Prop) (hw : w_X3_goes a0 b1 h Q) : Ct G l yX3_goes (ws_ yX3_goes cX3_goes 2 (some .boolean)) 1 12 0 0 [.ref a0, .int (bI b1)] h (pZ Q) := by
  refine Ct.of (own := RX3) false (by decide +kernel) rfl (show (_ : Nat) ≤ _ from Nat.le_of_ble_eq_true rfl) (fun z => by cases z) (fun V C => ?_)
  show V h 0 0 0 [(0, .ref a0), (1, .int (bI b1))] []
  unfold w_X3_goes at hw
  refine r_aload_n C rfl 0 rfl dX3_goes_0 (r_dup C rfl dX3_goes_1 ?_)
  refine r_gfI (k := 12) C kX3 (by decide) (Or.inl q2167) (Or.inl rfl) dX3_goes_2 hw (fun v1 hw => ?_)
  refine r_aload_n C rfl 0 rfl dX3_goes_5 ?_
  refine r_gfZ (k := 11) C kX3 (by decide) (Or.inl q2166) (Or.inl rfl) dX3_goes_6 hw (fun v2 hw => ?_)
  have hJ : V h 0 0 21 [(0, .ref a0), (1, .int (bI b1))] [.int (bI (if v2 = false then false else (if b1 = true then false else true))), .int v1, .ref a0] := by
    refine r_iadd C dX3_goes_21 ?_
    refine r_pf (k := 12) (v := .int (v1 + (bI (if v2 = false then false else (if b1 = true then false else true))))) C kX3 (by decide) (Or.inl q2167) (Or.inl rfl) (Or.inl rfl) rfl rfl dX3_goes_22 hw (fun h3 hw => ?_)
    refine r_aload_n C rfl 0 rfl dX3_goes_25 ?_
    refine r_gfZ (k := 11) C kX3 (by decide) (Or.inl q2166) (Or.inl rfl) dX3_goes_26 hw (fun v4 hw => ?_)
    have hJ : V h3 0 0 41 [] [.int (bI (if v4 = false then false else (if b1 = false then false else true)))] := by
      exact r_zreturn (x := (if v4 = false then false else (if b1 = false then false else true))) C dX3_goes_41 (Nat.le_refl _) (Nat.le_refl _) ⟨_, rfl, hw⟩
    refine r_if_eq_b (tgt := 40) C (by decide) dX3_goes_29 (fun hc5 => ?_) (fun hc5 => ?_)
    · have hJ6 := hJ
      try simp only [if_pos hc5] at hJ6
      refine r_iconst (v := (0 : Int32)) C (by decide) dX3_goes_40 ?_
      exact r_sub C [] rfl hJ6
    · have hJ6 := hJ
      try simp only [if_neg (show ¬ v4 = false from by rw [hc5]; decide)] at hJ6
      refine r_iload_n C rfl 1 rfl dX3_goes_32 ?_
      refine r_if_eq_b (tgt := 40) C (by decide) dX3_goes_33 (fun hc7 => ?_) (fun hc7 => ?_)
      · have hJ8 := hJ6
        try simp only [if_pos hc7] at hJ8
        refine r_iconst (v := (0 : Int32)) C (by decide) dX3_goes_40 ?_
        exact r_sub C [] rfl hJ8
      · have hJ8 := hJ6
        try simp only [if_neg (show ¬ b1 = false from by rw [hc7]; decide)] at hJ8
        refine r_iconst (v := (1 : Int32)) C (by decide) dX3_goes_36 (r_goto (tgt := 41) C (by decide) dX3_goes_37 ?_)
        exact r_sub C [] rfl hJ8
  refine r_if_eq_b (tgt := 20) C (by decide) dX3_goes_9 (fun hc9 => ?_) (fun hc9 => ?_)
  · have hJ10 := hJ
    try simp only [if_pos hc9] at hJ10
    refine r_iconst (v := (0 : Int32)) C (by decide) dX3_goes_20 ?_
    exact r_sub C [0, 1] rfl hJ10
  · have hJ10 := hJ
    try simp only [if_neg (show ¬ v2 = false from by rw [hc9]; decide)] at hJ10
    refine r_iload_n C rfl 1 rfl dX3_goes_12 ?_
    refine r_if_ne_b (tgt := 20) C (by decide) dX3_goes_13 (fun hc11 => ?_) (fun hc11 => ?_)
    · have hJ12 := hJ10
      try simp only [if_pos hc11] at hJ12
      refine r_iconst (v := (0 : Int32)) C (by decide) dX3_goes_20 ?_
      exact r_sub C [0, 1] rfl hJ12
    · have hJ12 := hJ10
      try simp only [if_neg (show ¬ b1 = true from by rw [hc11]; decide)] at hJ12
      refine r_iconst (v := (1 : Int32)) C (by decide) dX3_goes_16 (r_goto (tgt := 21) C (by decide) dX3_goes_17 ?_)
      exact r_sub C [0, 1] rfl hJ12
def w_X3_goSeal (a0 : Nat) (i1 : Int32) (i2 : Int32) (i3 : Int32) (i4 : Int32) (i5 : Int32) (h : Hp) (Q : Int32 → Hp → Prop) : Prop :=
  rdI h a0 (2 : Int32) (fun v1 => wrI h a0 ((105 : Int32) + v1) i1 (fun h2 => wrI h2 a0 ((129 : Int32) + v1) i2 (fun h3 => wrI h3 a0 ((153 : Int32) + v1) i3 (fun h4 => wrI h4 a0 ((177 : Int32) + v1) i4 (fun h5 => wrI h5 a0 ((201 : Int32) + v1) i5 (fun h6 => wrI h6 a0 ((225 : Int32) + v1) (-1 : Int32) (fun h7 => rdI h7 a0 (2 : Int32) (fun v8 => wrI h7 a0 (2 : Int32) (v8 + (1 : Int32)) (fun h9 => Q v1 h9)))))))))
theorem sg_X3_goSeal : ySg yX3_goSeal 6 = true := by decide +kernel
theorem c_X3_goSeal (G : gT) (l : Launch) (a0 : Nat) (i1 : Int32) (i2 : Int32) (i3 : Int32) (i4 : Int32) (i5 : Int32) (h : Hp) (Q : Int32 → Hp → Prop) (hw : w_X3_goSeal a0 i1 i2 i3 i4 i5 h Q) : Ct G l yX3_goSeal (ws_ yX3_goSeal cX3_goSeal 7 (some .int)) 1 12 0 0 [.ref a0, .int i1, .int i2, .int i3, .int i4, .int i5] h (pI Q) := by
  refine Ct.of (own := RX3) false (by decide +kernel) rfl (show (_ : Nat) ≤ _ from Nat.le_of_ble_eq_true rfl) (fun z => by cases z) (fun V C => ?_)
  show V h 0 0 0 [(0, .ref a0), (1, .int i1), (2, .int i2), (3, .int i3), (4, .int i4), (5, .int i5)] []
  unfold w_X3_goSeal at hw
  refine r_aload_n C rfl 0 rfl dX3_goSeal_0 (r_iconst (v := (2 : Int32)) C (by decide) dX3_goSeal_1 ?_)
  refine r_iaload C dX3_goSeal_2 hw (fun v1 hw => ?_)
  refine r_istore (L' := [(6, .int v1), (0, .ref a0), (1, .int i1), (2, .int i2), (3, .int i3), (4, .int i4), (5, .int i5)]) C (by decide) rfl dX3_goSeal_3 (r_aload_n C rfl 1 rfl dX3_goSeal_5 (r_bipush (v := (105 : Int32)) C (by decide) dX3_goSeal_6 (r_iload C 0 rfl dX3_goSeal_8 (r_iadd C dX3_goSeal_10 (r_iload_n C rfl 2 rfl dX3_goSeal_11 ?_)))))
  refine r_iastore C dX3_goSeal_12 hw (fun h2 hw => ?_)
  refine r_aload_n C rfl 1 rfl dX3_goSeal_13 (r_sipush (v := (129 : Int32)) C (by decide) dX3_goSeal_14 (r_iload C 0 rfl dX3_goSeal_17 (r_iadd C dX3_goSeal_19 (r_iload_n C rfl 3 rfl dX3_goSeal_20 ?_))))
  refine r_iastore C dX3_goSeal_21 hw (fun h3 hw => ?_)
  refine r_aload_n C rfl 1 rfl dX3_goSeal_22 (r_sipush (v := (153 : Int32)) C (by decide) dX3_goSeal_23 (r_iload C 0 rfl dX3_goSeal_26 (r_iadd C dX3_goSeal_28 (r_iload_n C rfl 4 rfl dX3_goSeal_29 ?_))))
  refine r_iastore C dX3_goSeal_30 hw (fun h4 hw => ?_)
  refine r_aload_n C rfl 1 rfl dX3_goSeal_31 (r_sipush (v := (177 : Int32)) C (by decide) dX3_goSeal_32 (r_iload C 0 rfl dX3_goSeal_35 (r_iadd C dX3_goSeal_37 (r_iload C 5 rfl dX3_goSeal_38 ?_))))
  refine r_iastore C dX3_goSeal_40 hw (fun h5 hw => ?_)
  refine r_aload_n C rfl 1 rfl dX3_goSeal_41 (r_sipush (v := (201 : Int32)) C (by decide) dX3_goSeal_42 (r_iload C 0 rfl dX3_goSeal_45 (r_iadd C dX3_goSeal_47 (r_iload C 6 rfl dX3_goSeal_48 ?_))))
  refine r_iastore C dX3_goSeal_50 hw (fun h6 hw => ?_)
  refine r_aload_n C rfl 1 rfl dX3_goSeal_51 (r_sipush (v := (225 : Int32)) C (by decide) dX3_goSeal_52 (r_iload C 0 rfl dX3_goSeal_55 (r_iadd C dX3_goSeal_57 (r_iconst (v := (-1 : Int32)) C (by decide) dX3_goSeal_58 ?_))))
  refine r_iastore C dX3_goSeal_59 hw (fun h7 hw => ?_)
  refine r_aload_n C rfl 1 rfl dX3_goSeal_60 (r_iconst (v := (2 : Int32)) C (by decide) dX3_goSeal_61 (r_dup2_11 C rfl rfl dX3_goSeal_62 ?_))
  refine r_iaload C dX3_goSeal_63 hw (fun v8 hw => ?_)
  refine r_iconst (v := (1 : Int32)) C (by decide) dX3_goSeal_64 (r_iadd C dX3_goSeal_65 ?_)
  refine r_iastore C dX3_goSeal_66 hw (fun h9 hw => ?_)
  refine r_iload C 0 rfl dX3_goSeal_67 ?_
  exact r_ireturn C dX3_goSeal_69 (Nat.le_refl _) (Nat.le_refl _) ⟨_, rfl, hw⟩
def B_X3_readSeal_122 (Q : Hp → Prop) (h : Hp) (x0 : Nat) (x1 : Int32) (x2 : Int32) (x4 : Int32) (x5 : Int32) (x6 : Int32) (s0 : Nat) (s1 : Bool) : Prop :=
  hasC h s0 2 ∧ (w_X3_goes s0 s1 h (fun r30 h31 => (r30 = false → Q h31) ∧ (r30 = true → gfR h31 x0 2 3 (fun v33 => nn v33 (fun y34 => w_X3_goSeal y34 x2 x1 x4 x5 x6 h31 (fun r35 h36 => Q h36))))))
def B_X3_readSeal_121 (Q : Hp → Prop) (h : Hp) (x0 : Nat) (x1 : Int32) (x2 : Int32) (x4 : Int32) (x5 : Int32) (x6 : Int32) (s0 : Nat) : Prop :=
  B_X3_readSeal_122 Q h x0 x1 x2 x4 x5 x6 s0 false
def B_X3_readSeal_49 (Q : Hp → Prop) (h : Hp) (x0 : Nat) (x1 : Int32) (x2 : Int32) (x4 : Int32) : Prop :=
  hasC h x0 2 ∧ (w_X3_digit x0 (0 : Int32) (9 : Int32) h (fun r6 h7 => hasC h7 x0 2 ∧ (w_X3_digit x0 (0 : Int32) (9 : Int32) h7 (fun r9 h10 => hasC h10 x0 2 ∧ (w_X3_ascending x0 (0 : Int32) (3 : Int32) h10 (fun r12 h13 => gfR h13 x0 2 3 (fun v14 => nn v14 (fun y15 => w_X3_hasDie y15 x2 h13 (fun r16 h17 => (r16 = false → B_X3_readSeal_121 Q h17 x0 x1 x2 x4 (((10 : Int32) * r6) + r9) r12 x0) ∧ (r16 = true → gfR h17 x0 2 3 (fun v19 => nn v19 (fun y20 => w_X3_areCracks y20 x2 r12 h17 (fun r21 h22 => (r21 = false → B_X3_readSeal_121 Q h22 x0 x1 x2 x4 (((10 : Int32) * r6) + r9) r12 x0) ∧ (r21 = true → gfR h22 x0 2 3 (fun v24 => nn v24 (fun y25 => rdI h22 y25 (2 : Int32) (fun v26 => B_X3_readSeal_122 Q h22 x0 x1 x2 x4 (((10 : Int32) * r6) + r9) r12 x0 (if (24 : Int32) ≤ v26 then false else true))))))))))))))))))
def B_X3_readSeal_38 (Q : Hp → Prop) (h : Hp) (x0 : Nat) (x1 : Int32) (x2 : Int32) (x3 : Bool) (s0 : Int32) : Prop :=
  (x3 = false → B_X3_readSeal_49 Q h x0 x1 x2 s0) ∧ (x3 = true → hasC h x0 2 ∧ (w_X3_eat x0 true h (fun h4 => B_X3_readSeal_49 Q h4 x0 x1 x2 s0)))
def w_X3_readSeal (a0 : Nat) (i1 : Int32) (h : Hp) (Q : Hp → Prop) : Prop :=
  hasC h a0 2 ∧ (w_X3_digit a0 (0 : Int32) (9 : Int32) h (fun r38 h39 => hasC h39 a0 2 ∧ (w_X3_here a0 h39 (fun r41 h42 => ((if ¬ r41 = (46 : Int32) then false else true) = false → hasC h42 a0 2 ∧ (w_X3_digit a0 (0 : Int32) (7 : Int32) h42 (fun r45 h46 => B_X3_readSeal_38 Q h46 a0 i1 r38 (if ¬ r41 = (46 : Int32) then false else true) r45))) ∧ ((if ¬ r41 = (46 : Int32) then false else true) = true → B_X3_readSeal_38 Q h42 a0 i1 r38 (if ¬ r41 = (46 : Int32) then false else true) (-1 : Int32))))))
theorem b_X3_readSeal_122 {G : gT} {l : Launch} {V : Hp → Nat → Nat → Nat → List (Nat × Value) → List Value → Prop} {Q : Hp → Prop} (C : Cx G l V cX3_readSeal 7 RX3 4 85 0 0 (pV Q) none (none) [] false) (h : Hp) (x0 : Nat) (x1 : Int32) (x2 : Int32) (x4 : Int32) (x5 : Int32) (x6 : Int32) (s0 : Nat) (s1 : Bool) (hw : B_X3_readSeal_122 Q h x0 x1 x2 x4 x5 x6 s0 s1) : V h 0 0 122 [(0, .ref x0), (1, .int x1), (2, .int x2), (4, .int x4), (5, .int x5), (6, .int x6)] [.int (bI s1), .ref s0] := by
  unfold B_X3_readSeal_122 at hw
  obtain ⟨hq29, hw⟩ := hw
  refine r_callV (ci := 2) (rest := []) (As := [.int (bI s1)]) C sg_X3_goes rfl rfl q2269 q2271 qs47 q90 q2272 rfl (Nat.le_of_ble_eq_true rfl) dX3_readSeal_122 rfl hq29 (Nat.le_refl _) (Nat.le_refl _) (c_X3_goes G l s0 s1 h _ hw) (k_Z (fun r30 h31 hw => ?_))
  refine r_if_eq_b (tgt := 144) C (by decide) dX3_readSeal_125 (fun hc32 => ?_) (fun hc32 => ?_)
  · have hw := hw.1 hc32
    exact r_return C dX3_readSeal_144 (Nat.le_refl _) (Nat.le_refl _) ⟨rfl, hw⟩
  · have hw := hw.2 hc32
    refine r_aload_n C rfl 0 rfl dX3_readSeal_128 ?_
    refine r_gfR (k := 3) C kX3 (by decide) (Or.inl q2158) (Or.inl rfl) dX3_readSeal_129 hw (fun v33 hw => ?_)
    refine r_iload_n C rfl 2 rfl dX3_readSeal_132 (r_iload_n C rfl 1 rfl dX3_readSeal_133 (r_iload C 3 rfl dX3_readSeal_134 (r_iload C 4 rfl dX3_readSeal_136 (r_iload C 5 rfl dX3_readSeal_138 ?_))))
    obtain ⟨y34, rfl, hw_y34⟩ := hw
    have hw := hw_y34
    refine r_callS (rest := []) (As := [.ref y34, .int x2, .int x1, .int x4, .int x5, .int x6]) C sg_X3_goSeal q2320 q2321 q90 q2322 rfl (Nat.le_of_ble_eq_true rfl) dX3_readSeal_140 rfl (Nat.le_refl _) (Nat.le_refl _) (c_X3_goSeal G l y34 x2 x1 x4 x5 x6 h31 _ hw) (k_I (fun r35 h36 hw => ?_))
    refine r_pop C rfl dX3_readSeal_143 ?_
    exact r_return C dX3_readSeal_144 (Nat.le_refl _) (Nat.le_refl _) ⟨rfl, hw⟩
theorem b_X3_readSeal_121 {G : gT} {l : Launch} {V : Hp → Nat → Nat → Nat → List (Nat × Value) → List Value → Prop} {Q : Hp → Prop} (C : Cx G l V cX3_readSeal 7 RX3 4 85 0 0 (pV Q) none (none) [] false) (h : Hp) (x0 : Nat) (x1 : Int32) (x2 : Int32) (x4 : Int32) (x5 : Int32) (x6 : Int32) (s0 : Nat) (hw : B_X3_readSeal_121 Q h x0 x1 x2 x4 x5 x6 s0) : V h 0 0 121 [(0, .ref x0), (1, .int x1), (2, .int x2), (4, .int x4), (5, .int x5), (6, .int x6)] [.ref s0] := by
  unfold B_X3_readSeal_121 at hw
  refine r_iconst (v := (0 : Int32)) C (by decide) dX3_readSeal_121 ?_
  exact r_sub C [0, 1, 2, 3, 4, 5] rfl (b_X3_readSeal_122 C _ _ _ _ _ _ _ _ _ hw)
theorem b_X3_readSeal_49 {G : gT} {l : Launch} {V : Hp → Nat → Nat → Nat → List (Nat × Value) → List Value → Prop} {Q : Hp → Prop} (C : Cx G l V cX3_readSeal 7 RX3 4 85 0 0 (pV Q) none (none) [] false) (h : Hp) (x0 : Nat) (x1 : Int32) (x2 : Int32) (x4 : Int32) (hw : B_X3_readSeal_49 Q h x0 x1 x2 x4) : V h 0 0 49 [(0, .ref x0), (1, .int x1), (2, .int x2), (4, .int x4)] [] := by
  unfold B_X3_readSeal_49 at hw
  refine r_bipush (v := (10 : Int32)) C (by decide) dX3_readSeal_49 (r_aload_n C rfl 0 rfl dX3_readSeal_51 (r_iconst (v := (0 : Int32)) C (by decide) dX3_readSeal_52 (r_bipush (v := (9 : Int32)) C (by decide) dX3_readSeal_53 ?_)))
  obtain ⟨hq5, hw⟩ := hw
  refine r_callV (ci := 2) (rest := [.int (10 : Int32)]) (As := [.int (0 : Int32), .int (9 : Int32)]) C sg_X3_digit rfl rfl q2258 q2260 qs45 q90 q2261 rfl (Nat.le_of_ble_eq_true rfl) dX3_readSeal_55 rfl hq5 (Nat.le_refl _) (Nat.le_refl _) (c_X3_digit G l x0 (0 : Int32) (9 : Int32) h _ hw) (k_I (fun r6 h7 hw => ?_))
  refine r_imul C dX3_readSeal_58 (r_istore (L' := [(5, .int ((10 : Int32) * r6)), (0, .ref x0), (1, .int x1), (2, .int x2), (4, .int x4)]) C (by decide) rfl dX3_readSeal_59 (r_iload C 0 rfl dX3_readSeal_61 (r_aload_n C rfl 1 rfl dX3_readSeal_63 (r_iconst (v := (0 : Int32)) C (by decide) dX3_readSeal_64 (r_bipush (v := (9 : Int32)) C (by decide) dX3_readSeal_65 ?_)))))
  obtain ⟨hq8, hw⟩ := hw
  refine r_callV (ci := 2) (rest := [.int ((10 : Int32) * r6)]) (As := [.int (0 : Int32), .int (9 : Int32)]) C sg_X3_digit rfl rfl q2258 q2260 qs45 q90 q2261 rfl (Nat.le_of_ble_eq_true rfl) dX3_readSeal_67 rfl hq8 (Nat.le_refl _) (Nat.le_refl _) (c_X3_digit G l x0 (0 : Int32) (9 : Int32) h7 _ hw) (k_I (fun r9 h10 hw => ?_))
  refine r_iadd C dX3_readSeal_70 (r_istore (L' := [(5, .int (((10 : Int32) * r6) + r9)), (0, .ref x0), (1, .int x1), (2, .int x2), (4, .int x4)]) C (by decide) rfl dX3_readSeal_71 (r_aload_n C rfl 1 rfl dX3_readSeal_73 (r_iconst (v := (0 : Int32)) C (by decide) dX3_readSeal_74 (r_iconst (v := (3 : Int32)) C (by decide) dX3_readSeal_75 ?_))))
  obtain ⟨hq11, hw⟩ := hw
  refine r_callV (ci := 2) (rest := []) (As := [.int (0 : Int32), .int (3 : Int32)]) C sg_X3_ascending rfl rfl q2262 q2264 qs46 q90 q2265 rfl (Nat.le_of_ble_eq_true rfl) dX3_readSeal_76 rfl hq11 (Nat.le_refl _) (Nat.le_refl _) (c_X3_ascending G l x0 (0 : Int32) (3 : Int32) h10 _ hw) (k_I (fun r12 h13 hw => ?_))
  refine r_istore (L' := [(6, .int r12), (5, .int (((10 : Int32) * r6) + r9)), (0, .ref x0), (1, .int x1), (2, .int x2), (4, .int x4)]) C (by decide) rfl dX3_readSeal_79 (r_aload_n C rfl 2 rfl dX3_readSeal_81 (r_aload_n C rfl 2 rfl dX3_readSeal_82 ?_))
  refine r_gfR (k := 3) C kX3 (by decide) (Or.inl q2158) (Or.inl rfl) dX3_readSeal_83 hw (fun v14 hw => ?_)
  refine r_iload_n C rfl 4 rfl dX3_readSeal_86 ?_
  obtain ⟨y15, rfl, hw_y15⟩ := hw
  have hw := hw_y15
  refine r_callS (rest := [.ref x0]) (As := [.ref y15, .int x2]) C sg_X3_hasDie q2291 q2292 q90 q2293 rfl (Nat.le_of_ble_eq_true rfl) dX3_readSeal_87 rfl (Nat.le_refl _) (Nat.le_refl _) (c_X3_hasDie G l y15 x2 h13 _ hw) (k_Z (fun r16 h17 hw => ?_))
  refine r_if_eq_b (tgt := 121) C (by decide) dX3_readSeal_90 (fun hc18 => ?_) (fun hc18 => ?_)
  · have hw := hw.1 hc18
    exact r_sub C [2, 3, 4, 5, 1, 0] rfl (b_X3_readSeal_121 C _ _ _ _ _ _ _ _ hw)
  · have hw := hw.2 hc18
    refine r_aload_n C rfl 2 rfl dX3_readSeal_93 ?_
    refine r_gfR (k := 3) C kX3 (by decide) (Or.inl q2158) (Or.inl rfl) dX3_readSeal_94 hw (fun v19 hw => ?_)
    refine r_iload_n C rfl 4 rfl dX3_readSeal_97 (r_iload C 0 rfl dX3_readSeal_98 ?_)
    obtain ⟨y20, rfl, hw_y20⟩ := hw
    have hw := hw_y20
    refine r_callS (rest := [.ref x0]) (As := [.ref y20, .int x2, .int r12]) C sg_X3_areCracks q2317 q2318 q90 q2319 rfl (Nat.le_of_ble_eq_true rfl) dX3_readSeal_100 rfl (Nat.le_refl _) (Nat.le_refl _) (c_X3_areCracks G l y20 x2 r12 h17 _ hw) (k_Z (fun r21 h22 hw => ?_))
    refine r_if_eq_b (tgt := 121) C (by decide) dX3_readSeal_103 (fun hc23 => ?_) (fun hc23 => ?_)
    · have hw := hw.1 hc23
      exact r_sub C [2, 3, 4, 5, 1, 0] rfl (b_X3_readSeal_121 C _ _ _ _ _ _ _ _ hw)
    · have hw := hw.2 hc23
      refine r_aload_n C rfl 2 rfl dX3_readSeal_106 ?_
      refine r_gfR (k := 3) C kX3 (by decide) (Or.inl q2158) (Or.inl rfl) dX3_readSeal_107 hw (fun v24 hw => ?_)
      refine r_iconst (v := (2 : Int32)) C (by decide) dX3_readSeal_110 ?_
      obtain ⟨y25, rfl, hw_y25⟩ := hw
      have hw := hw_y25
      refine r_iaload C dX3_readSeal_111 hw (fun v26 hw => ?_)
      refine r_bipush (v := (24 : Int32)) C (by decide) dX3_readSeal_112 ?_
      have hJ : V h22 0 0 122 [(6, .int r12), (5, .int (((10 : Int32) * r6) + r9)), (0, .ref x0), (1, .int x1), (2, .int x2), (4, .int x4)] [.int (bI (if (24 : Int32) ≤ v26 then false else true)), .ref x0] := by
        exact r_sub C [2, 3, 4, 5, 1, 0] rfl (b_X3_readSeal_122 C _ _ _ _ _ _ _ _ _ hw)
      refine r_icmp_ge (tgt := 121) C (by decide) dX3_readSeal_114 (fun hc27 => ?_) (fun hc27 => ?_)
      · have hJ28 := hJ
        try simp only [if_pos hc27] at hJ28
        refine r_iconst (v := (0 : Int32)) C (by decide) dX3_readSeal_121 ?_
        exact r_sub C [0, 1, 2, 3, 4, 5] rfl hJ28
      · have hJ28 := hJ
        try simp only [if_neg hc27] at hJ28
        refine r_iconst (v := (1 : Int32)) C (by decide) dX3_readSeal_117 (r_goto (tgt := 122) C (by decide) dX3_readSeal_118 ?_)
        exact r_sub C [0, 1, 2, 3, 4, 5] rfl hJ28
theorem b_X3_readSeal_38 {G : gT} {l : Launch} {V : Hp → Nat → Nat → Nat → List (Nat × Value) → List Value → Prop} {Q : Hp → Prop} (C : Cx G l V cX3_readSeal 7 RX3 4 85 0 0 (pV Q) none (none) [] false) (h : Hp) (x0 : Nat) (x1 : Int32) (x2 : Int32) (x3 : Bool) (s0 : Int32) (hw : B_X3_readSeal_38 Q h x0 x1 x2 x3 s0) : V h 0 0 38 [(0, .ref x0), (1, .int x1), (2, .int x2), (3, .int (bI x3))] [.int s0] := by
  unfold B_X3_readSeal_38 at hw
  refine r_istore (L' := [(4, .int s0), (0, .ref x0), (1, .int x1), (2, .int x2), (3, .int (bI x3))]) C (by decide) rfl dX3_readSeal_38 (r_iload_n C rfl 4 rfl dX3_readSeal_40 ?_)
  refine r_if_eq_b (tgt := 49) C (by decide) dX3_readSeal_41 (fun hc1 => ?_) (fun hc1 => ?_)
  · have hw := hw.1 hc1
    exact r_sub C [1, 2, 3, 0] rfl (b_X3_readSeal_49 C _ _ _ _ _ hw)
  · have hw := hw.2 hc1
    refine r_aload_n C rfl 1 rfl dX3_readSeal_44 (r_iconst (v := (1 : Int32)) C (by decide) dX3_readSeal_45 ?_)
    obtain ⟨hq2, hw⟩ := hw
    refine r_callV (ci := 2) (rest := []) (As := [.int (bI true)]) C sg_X3_eat rfl rfl q2246 q2248 qs42 q90 q2249 rfl (Nat.le_of_ble_eq_true rfl) dX3_readSeal_46 rfl hq2 (Nat.le_refl _) (Nat.le_refl _) (c_X3_eat G l x0 true h _ hw) (k_V (fun h4 hw => ?_))
    exact r_sub C [1, 2, 3, 0] rfl (b_X3_readSeal_49 C _ _ _ _ _ hw)
theorem sg_X3_readSeal : ySg yX3_readSeal 1 = true := by decide +kernel
theorem c_X3_readSeal (G : gT) (l : Launch) (a0 : Nat) (i1 : Int32) (h : Hp) (Q : Hp → Prop) (hw : w_X3_readSeal a0 i1 h Q) : Ct G l yX3_readSeal (ws_ yX3_readSeal cX3_readSeal 7 (none)) 4 85 0 0 [.ref a0, .int i1] h (pV Q) := by
  refine Ct.of (own := RX3) false (by decide +kernel) rfl (show (_ : Nat) ≤ _ from Nat.le_of_ble_eq_true rfl) (fun z => by cases z) (fun V C => ?_)
  show V h 0 0 0 [(0, .ref a0), (1, .int i1)] []
  unfold w_X3_readSeal at hw
  refine r_aload_n C rfl 0 rfl dX3_readSeal_0 (r_iconst (v := (0 : Int32)) C (by decide) dX3_readSeal_1 (r_bipush (v := (9 : Int32)) C (by decide) dX3_readSeal_2 ?_))
  obtain ⟨hq37, hw⟩ := hw
  refine r_callV (ci := 2) (rest := []) (As := [.int (0 : Int32), .int (9 : Int32)]) C sg_X3_digit rfl rfl q2258 q2260 qs45 q90 q2261 rfl (Nat.le_of_ble_eq_true rfl) dX3_readSeal_4 rfl hq37 (Nat.le_refl _) (Nat.le_refl _) (c_X3_digit G l a0 (0 : Int32) (9 : Int32) h _ hw) (k_I (fun r38 h39 hw => ?_))
  refine r_istore_n (L' := [(2, .int r38), (0, .ref a0), (1, .int i1)]) C rfl (by decide) rfl dX3_readSeal_7 (r_aload_n C rfl 1 rfl dX3_readSeal_8 ?_)
  obtain ⟨hq40, hw⟩ := hw
  refine r_callV (ci := 2) (rest := []) (As := []) C sg_X3_here rfl rfl q2242 q2244 qs41 q90 q2245 rfl (Nat.le_of_ble_eq_true rfl) dX3_readSeal_9 rfl hq40 (Nat.le_refl _) (Nat.le_refl _) (c_X3_here G l a0 h39 _ hw) (k_I (fun r41 h42 hw => ?_))
  refine r_bipush (v := (46 : Int32)) C (by decide) dX3_readSeal_12 ?_
  have hJ : V h42 0 0 22 [(2, .int r38), (0, .ref a0), (1, .int i1)] [.int (bI (if ¬ r41 = (46 : Int32) then false else true))] := by
    refine r_istore_n (L' := [(3, .int (bI (if ¬ r41 = (46 : Int32) then false else true))), (2, .int r38), (0, .ref a0), (1, .int i1)]) C rfl (by decide) rfl dX3_readSeal_22 (r_iload_n C rfl 0 rfl dX3_readSeal_23 ?_)
    refine r_if_eq_b (tgt := 31) C (by decide) dX3_readSeal_24 (fun hc43 => ?_) (fun hc43 => ?_)
    · have hw := hw.1 hc43
      refine r_aload_n C rfl 2 rfl dX3_readSeal_31 (r_iconst (v := (0 : Int32)) C (by decide) dX3_readSeal_32 (r_bipush (v := (7 : Int32)) C (by decide) dX3_readSeal_33 ?_))
      obtain ⟨hq44, hw⟩ := hw
      refine r_callV (ci := 2) (rest := []) (As := [.int (0 : Int32), .int (7 : Int32)]) C sg_X3_digit rfl rfl q2258 q2260 qs45 q90 q2261 rfl (Nat.le_of_ble_eq_true rfl) dX3_readSeal_35 rfl hq44 (Nat.le_refl _) (Nat.le_refl _) (c_X3_digit G l a0 (0 : Int32) (7 : Int32) h42 _ hw) (k_I (fun r45 h46 hw => ?_))
      exact r_sub C [2, 3, 1, 0] rfl (b_X3_readSeal_38 C _ _ _ _ _ _ hw)
    · have hw := hw.2 hc43
      refine r_iconst (v := (-1 : Int32)) C (by decide) dX3_readSeal_27 (r_goto (tgt := 38) C (by decide) dX3_readSeal_28 ?_)
      exact r_sub C [2, 3, 1, 0] rfl (b_X3_readSeal_38 C _ _ _ _ _ _ hw)
  refine r_icmp_ne (tgt := 21) C (by decide) dX3_readSeal_14 (fun hc47 => ?_) (fun hc47 => ?_)
  · have hJ48 := hJ
    try simp only [if_pos hc47] at hJ48
    refine r_iconst (v := (0 : Int32)) C (by decide) dX3_readSeal_21 ?_
    exact r_sub C [0, 1, 2] rfl hJ48
  · have hJ48 := hJ
    try simp only [if_neg (show ¬ ¬ r41 = (46 : Int32) from fun z => z hc47)] at hJ48
    refine r_iconst (v := (1 : Int32)) C (by decide) dX3_readSeal_17 (r_goto (tgt := 22) C (by decide) dX3_readSeal_18 ?_)
    exact r_sub C [0, 1, 2] rfl hJ48
def B_X3_end_33 (Q : Hp → Prop) (h : Hp) (s0 : Nat) (s1 : Bool) : Prop :=
  pf h s0 2 11 (.int (bI s1)) (fun h1 => Q h1)
def w_X3_end (a0 : Nat) (h : Hp) (Q : Hp → Prop) : Prop :=
  gfZ h a0 2 11 (fun v2 => (v2 = false → B_X3_end_33 Q h a0 false) ∧ (v2 = true → gfI h a0 2 10 (fun v4 => gfI h a0 2 9 (fun v5 => (v4 = v5 → B_X3_end_33 Q h a0 true) ∧ (¬ v4 = v5 → hasC h a0 2 ∧ (w_X3_here a0 h (fun r8 h9 => B_X3_end_33 Q h9 a0 (if ¬ r8 = (59 : Int32) then false else true))))))))
theorem b_X3_end_33 {G : gT} {l : Launch} {V : Hp → Nat → Nat → Nat → List (Nat × Value) → List Value → Prop} {Q : Hp → Prop} (C : Cx G l V cX3_end 1 RX3 2 32 0 0 (pV Q) none (none) [] false) (h : Hp) (s0 : Nat) (s1 : Bool) (hw : B_X3_end_33 Q h s0 s1) : V h 0 0 33 [] [.int (bI s1), .ref s0] := by
  unfold B_X3_end_33 at hw
  refine r_pf (k := 11) (v := .int (bI s1)) C kX3 (by decide) (Or.inl q2166) (Or.inl rfl) (Or.inl rfl) (n_bI _) (f_bI _) dX3_end_33 hw (fun h1 hw => ?_)
  exact r_return C dX3_end_36 (Nat.le_refl _) (Nat.le_refl _) ⟨rfl, hw⟩
theorem sg_X3_end : ySg yX3_end 0 = true := by decide +kernel
theorem c_X3_end (G : gT) (l : Launch) (a0 : Nat) (h : Hp) (Q : Hp → Prop) (hw : w_X3_end a0 h Q) : Ct G l yX3_end (ws_ yX3_end cX3_end 1 (none)) 2 32 0 0 [.ref a0] h (pV Q) := by
  refine Ct.of (own := RX3) false (by decide +kernel) rfl (show (_ : Nat) ≤ _ from Nat.le_of_ble_eq_true rfl) (fun z => by cases z) (fun V C => ?_)
  show V h 0 0 0 [(0, .ref a0)] []
  unfold w_X3_end at hw
  refine r_aload_n C rfl 0 rfl dX3_end_0 (r_aload_n C rfl 0 rfl dX3_end_1 ?_)
  refine r_gfZ (k := 11) C kX3 (by decide) (Or.inl q2166) (Or.inl rfl) dX3_end_2 hw (fun v2 hw => ?_)
  refine r_if_eq_b (tgt := 32) C (by decide) dX3_end_5 (fun hc3 => ?_) (fun hc3 => ?_)
  · have hw := hw.1 hc3
    refine r_iconst (v := (0 : Int32)) C (by decide) dX3_end_32 ?_
    exact r_sub C [] rfl (b_X3_end_33 C _ _ _ hw)
  · have hw := hw.2 hc3
    refine r_aload_n C rfl 0 rfl dX3_end_8 ?_
    refine r_gfI (k := 10) C kX3 (by decide) (Or.inl q2165) (Or.inl rfl) dX3_end_9 hw (fun v4 hw => ?_)
    refine r_aload_n C rfl 0 rfl dX3_end_12 ?_
    refine r_gfI (k := 9) C kX3 (by decide) (Or.inl q2164) (Or.inl rfl) dX3_end_13 hw (fun v5 hw => ?_)
    refine r_icmp_eq (tgt := 28) C (by decide) dX3_end_16 (fun hc6 => ?_) (fun hc6 => ?_)
    · have hw := hw.1 hc6
      refine r_iconst (v := (1 : Int32)) C (by decide) dX3_end_28 (r_goto (tgt := 33) C (by decide) dX3_end_29 ?_)
      exact r_sub C [] rfl (b_X3_end_33 C _ _ _ hw)
    · have hw := hw.2 hc6
      refine r_aload_n C rfl 0 rfl dX3_end_19 ?_
      obtain ⟨hq7, hw⟩ := hw
      refine r_callV (ci := 2) (rest := [.ref a0]) (As := []) C sg_X3_here rfl rfl q2242 q2244 qs41 q90 q2245 rfl (Nat.le_of_ble_eq_true rfl) dX3_end_20 rfl hq7 (Nat.le_refl _) (Nat.le_refl _) (c_X3_here G l a0 h _ hw) (k_I (fun r8 h9 hw => ?_))
      refine r_bipush (v := (59 : Int32)) C (by decide) dX3_end_23 ?_
      have hJ : V h9 0 0 33 [] [.int (bI (if ¬ r8 = (59 : Int32) then false else true)), .ref a0] := by
        exact r_sub C [] rfl (b_X3_end_33 C _ _ _ hw)
      refine r_icmp_ne (tgt := 32) C (by decide) dX3_end_25 (fun hc10 => ?_) (fun hc10 => ?_)
      · have hJ11 := hJ
        try simp only [if_pos hc10] at hJ11
        refine r_iconst (v := (0 : Int32)) C (by decide) dX3_end_32 ?_
        exact r_sub C [] rfl hJ11
      · have hJ11 := hJ
        try simp only [if_neg (show ¬ ¬ r8 = (59 : Int32) from fun z => z hc10)] at hJ11
        refine r_iconst (v := (1 : Int32)) C (by decide) dX3_end_28 (r_goto (tgt := 33) C (by decide) dX3_end_29 ?_)
        exact r_sub C [] rfl hJ11
def w_X3_hasSeal (a0 : Nat) (i1 : Int32) (h : Hp) (Q : Bool → Hp → Prop) : Prop :=
  rdI h a0 (2 : Int32) (fun v1 => w_X3_in i1.toInt64 (0 : Int64) ((v1 - (1 : Int32)).toInt64) h (fun r2 h3 => Q r2 h3))
theorem sg_X3_hasSeal : ySg yX3_hasSeal 2 = true := by decide +kernel
theorem c_X3_hasSeal (G : gT) (l : Launch) (a0 : Nat) (i1 : Int32) (h : Hp) (Q : Bool → Hp → Prop) (hw : w_X3_hasSeal a0 i1 h Q) : Ct G l yX3_hasSeal (ws_ yX3_hasSeal cX3_hasSeal 2 (some .boolean)) 2 37 0 0 [.ref a0, .int i1] h (pZ Q) := by
  refine Ct.of (own := RX3) false (by decide +kernel) rfl (show (_ : Nat) ≤ _ from Nat.le_of_ble_eq_true rfl) (fun z => by cases z) (fun V C => ?_)
  show V h 0 0 0 [(0, .ref a0), (1, .int i1)] []
  unfold w_X3_hasSeal at hw
  refine r_iload_n C rfl 1 rfl dX3_hasSeal_0 (r_i2l C dX3_hasSeal_1 (r_lconst (v := (0 : Int64)) C (by decide) dX3_hasSeal_2 (r_aload_n C rfl 0 rfl dX3_hasSeal_3 (r_iconst (v := (2 : Int32)) C (by decide) dX3_hasSeal_4 ?_))))
  refine r_iaload C dX3_hasSeal_5 hw (fun v1 hw => ?_)
  refine r_iconst (v := (1 : Int32)) C (by decide) dX3_hasSeal_6 (r_isub C dX3_hasSeal_7 (r_i2l C dX3_hasSeal_8 ?_))
  refine r_callS (rest := []) (As := [.long i1.toInt64, .long (0 : Int64), .long ((v1 - (1 : Int32)).toInt64)]) C sg_X3_in q2219 q2220 q90 q2221 rfl (Nat.le_of_ble_eq_true rfl) dX3_hasSeal_9 rfl (Nat.le_refl _) (Nat.le_refl _) (c_X3_in G l i1.toInt64 (0 : Int64) ((v1 - (1 : Int32)).toInt64) h _ hw) (k_Z (fun r2 h3 hw => ?_))
  exact r_zreturn (x := r2) C dX3_hasSeal_12 (Nat.le_refl _) (Nat.le_refl _) ⟨_, rfl, hw⟩
def S_X3_onCharter_4 (Q : Int32 → Hp → Prop) (LA4 : Hp → Nat → Int32 → Int32 → Int32 → Prop) (h : Hp) (x0 : Nat) (x1 : Int32) (x2 : Int32) (x3 : Int32) : Prop :=
  rdI h x0 (2 : Int32) (fun v1 => (v1 ≤ x3 → Q x2 h) ∧ (¬ v1 ≤ x3 → rdI h x0 ((225 : Int32) + x3) (fun v3 => LA4 h x0 x1 (x2 + (bI (if ¬ v3 = x1 then false else true))) (x3 + (1 : Int32)))))
def B_X3_onCharter_4 (Q : Int32 → Hp → Prop) : Nat → Hp → Nat → Int32 → Int32 → Int32 → Prop
  | 0, _, _, _, _, _ => False
  | k + 1, h, x0, x1, x2, x3 => S_X3_onCharter_4 Q (B_X3_onCharter_4 Q k) h x0 x1 x2 x3
def w_X3_onCharter (a0 : Nat) (i1 : Int32) (h : Hp) (Q : Int32 → Hp → Prop) : Prop :=
  ∃ k9 : Nat, B_X3_onCharter_4 Q k9 h a0 i1 (0 : Int32) (0 : Int32)
theorem s_X3_onCharter_4 {G : gT} {l : Launch} {V : Hp → Nat → Nat → Nat → List (Nat × Value) → List Value → Prop} {Q : Int32 → Hp → Prop} (C : Cx G l V cX3_onCharter 4 RX3 1 12 0 0 (pI Q) none (some .int) [] false) (LA4 : Hp → Nat → Int32 → Int32 → Int32 → Prop) (hLA4 : ∀ (h : Hp) (x0 : Nat) (x1 : Int32) (x2 : Int32) (x3 : Int32), LA4 h x0 x1 x2 x3 → V h 0 0 4 [(0, .ref x0), (1, .int x1), (2, .int x2), (3, .int x3)] []) (h : Hp) (x0 : Nat) (x1 : Int32) (x2 : Int32) (x3 : Int32) (hw : S_X3_onCharter_4 Q LA4 h x0 x1 x2 x3) : V h 0 0 4 [(0, .ref x0), (1, .int x1), (2, .int x2), (3, .int x3)] [] := by
  unfold S_X3_onCharter_4 at hw
  refine r_iload_n C rfl 3 rfl dX3_onCharter_4 (r_aload_n C rfl 0 rfl dX3_onCharter_5 (r_iconst (v := (2 : Int32)) C (by decide) dX3_onCharter_6 ?_))
  refine r_iaload C dX3_onCharter_7 hw (fun v1 hw => ?_)
  refine r_icmp_ge (tgt := 36) C (by decide) dX3_onCharter_8 (fun hc2 => ?_) (fun hc2 => ?_)
  · have hw := hw.1 hc2
    refine r_iload_n C rfl 2 rfl dX3_onCharter_36 ?_
    exact r_ireturn C dX3_onCharter_37 (Nat.le_refl _) (Nat.le_refl _) ⟨_, rfl, hw⟩
  · have hw := hw.2 hc2
    refine r_iload_n C rfl 2 rfl dX3_onCharter_11 (r_aload_n C rfl 0 rfl dX3_onCharter_12 (r_sipush (v := (225 : Int32)) C (by decide) dX3_onCharter_13 (r_iload_n C rfl 3 rfl dX3_onCharter_16 (r_iadd C dX3_onCharter_17 ?_))))
    refine r_iaload C dX3_onCharter_18 hw (fun v3 hw => ?_)
    refine r_iload_n C rfl 1 rfl dX3_onCharter_19 ?_
    have hJ : V h 0 0 28 [(0, .ref x0), (1, .int x1), (3, .int x3)] [.int (bI (if ¬ v3 = x1 then false else true)), .int x2] := by
      refine r_iadd C dX3_onCharter_28 (r_istore_n (L' := [(2, .int (x2 + (bI (if ¬ v3 = x1 then false else true)))), (0, .ref x0), (1, .int x1), (3, .int x3)]) C rfl (by decide) rfl dX3_onCharter_29 (r_iinc (v := x3 + (1 : Int32)) (L' := [(3, .int (x3 + (1 : Int32))), (2, .int (x2 + (bI (if ¬ v3 = x1 then false else true)))), (0, .ref x0), (1, .int x1)]) C (u := 3) rfl (by rfl) (by decide) rfl dX3_onCharter_30 (r_goto (tgt := 4) C (by decide) dX3_onCharter_33 ?_)))
      exact r_sub C [2, 3, 1, 0] rfl (hLA4 _ _ _ _ _ hw)
    refine r_icmp_ne (tgt := 27) C (by decide) dX3_onCharter_20 (fun hc4 => ?_) (fun hc4 => ?_)
    · have hJ5 := hJ
      try simp only [if_pos hc4] at hJ5
      refine r_iconst (v := (0 : Int32)) C (by decide) dX3_onCharter_27 ?_
      exact r_sub C [0, 1, 3] rfl hJ5
    · have hJ5 := hJ
      try simp only [if_neg (show ¬ ¬ v3 = x1 from fun z => z hc4)] at hJ5
      refine r_iconst (v := (1 : Int32)) C (by decide) dX3_onCharter_23 (r_goto (tgt := 28) C (by decide) dX3_onCharter_24 ?_)
      exact r_sub C [0, 1, 3] rfl hJ5
theorem b_X3_onCharter_4 {G : gT} {l : Launch} {V : Hp → Nat → Nat → Nat → List (Nat × Value) → List Value → Prop} {Q : Int32 → Hp → Prop} (C : Cx G l V cX3_onCharter 4 RX3 1 12 0 0 (pI Q) none (some .int) [] false) : ∀ (k : Nat) (h : Hp) (x0 : Nat) (x1 : Int32) (x2 : Int32) (x3 : Int32), B_X3_onCharter_4 Q k h x0 x1 x2 x3 → V h 0 0 4 [(0, .ref x0), (1, .int x1), (2, .int x2), (3, .int x3)] [] := by
  intro k
  induction k with
  | zero =>
    intro h x0 x1 x2 x3 hw
    exact hw.elim
  | succ k ih =>
    intro h x0 x1 x2 x3 hw
    exact s_X3_onCharter_4 C _ (fun h x0 x1 x2 x3 hw => ih h x0 x1 x2 x3 hw) h x0 x1 x2 x3 hw
theorem sg_X3_onCharter : ySg yX3_onCharter 2 = true := by decide +kernel
theorem c_X3_onCharter (G : gT) (l : Launch) (a0 : Nat) (i1 : Int32) (h : Hp) (Q : Int32 → Hp → Prop) (hw : w_X3_onCharter a0 i1 h Q) : Ct G l yX3_onCharter (ws_ yX3_onCharter cX3_onCharter 4 (some .int)) 1 12 0 0 [.ref a0, .int i1] h (pI Q) := by
  refine Ct.of (own := RX3) false (by decide +kernel) rfl (show (_ : Nat) ≤ _ from Nat.le_of_ble_eq_true rfl) (fun z => by cases z) (fun V C => ?_)
  show V h 0 0 0 [(0, .ref a0), (1, .int i1)] []
  unfold w_X3_onCharter at hw
  refine r_iconst (v := (0 : Int32)) C (by decide) dX3_onCharter_0 (r_istore_n (L' := [(2, .int (0 : Int32)), (0, .ref a0), (1, .int i1)]) C rfl (by decide) rfl dX3_onCharter_1 (r_iconst (v := (0 : Int32)) C (by decide) dX3_onCharter_2 (r_istore_n (L' := [(3, .int (0 : Int32)), (2, .int (0 : Int32)), (0, .ref a0), (1, .int i1)]) C rfl (by decide) rfl dX3_onCharter_3 ?_)))
  obtain ⟨k9, hw⟩ := hw
  exact r_sub C [2, 3, 1, 0] rfl (b_X3_onCharter_4 C _ _ _ _ _ _ hw)
def w_X3_goHang (a0 : Nat) (i1 : Int32) (i2 : Int32) (h : Hp) (Q : Int32 → Hp → Prop) : Prop :=
  wrI h a0 ((225 : Int32) + i1) i2 (fun h1 => w_X3_onCharter a0 i2 h1 (fun r2 h3 => Q r2 h3))
theorem sg_X3_goHang : ySg yX3_goHang 3 = true := by decide +kernel
theorem c_X3_goHang (G : gT) (l : Launch) (a0 : Nat) (i1 : Int32) (i2 : Int32) (h : Hp) (Q : Int32 → Hp → Prop) (hw : w_X3_goHang a0 i1 i2 h Q) : Ct G l yX3_goHang (ws_ yX3_goHang cX3_goHang 3 (some .int)) 2 35 0 0 [.ref a0, .int i1, .int i2] h (pI Q) := by
  refine Ct.of (own := RX3) false (by decide +kernel) rfl (show (_ : Nat) ≤ _ from Nat.le_of_ble_eq_true rfl) (fun z => by cases z) (fun V C => ?_)
  show V h 0 0 0 [(0, .ref a0), (1, .int i1), (2, .int i2)] []
  unfold w_X3_goHang at hw
  refine r_aload_n C rfl 0 rfl dX3_goHang_0 (r_sipush (v := (225 : Int32)) C (by decide) dX3_goHang_1 (r_iload_n C rfl 1 rfl dX3_goHang_4 (r_iadd C dX3_goHang_5 (r_iload_n C rfl 2 rfl dX3_goHang_6 ?_))))
  refine r_iastore C dX3_goHang_7 hw (fun h1 hw => ?_)
  refine r_aload_n C rfl 0 rfl dX3_goHang_8 (r_iload_n C rfl 2 rfl dX3_goHang_9 ?_)
  refine r_callS (rest := []) (As := [.ref a0, .int i2]) C sg_X3_onCharter q2310 q2311 q90 q2312 rfl (Nat.le_of_ble_eq_true rfl) dX3_goHang_10 rfl (Nat.le_refl _) (Nat.le_refl _) (c_X3_onCharter G l a0 i2 h1 _ hw) (k_I (fun r2 h3 hw => ?_))
  exact r_ireturn C dX3_goHang_13 (Nat.le_refl _) (Nat.le_refl _) ⟨_, rfl, hw⟩
def w_X3_readHang (a0 : Nat) (h : Hp) (Q : Hp → Prop) : Prop :=
  hasC h a0 2 ∧ (w_X3_digit a0 (0 : Int32) (2 : Int32) h (fun r2 h3 => hasC h3 a0 2 ∧ (w_X3_digit a0 (0 : Int32) (if ¬ r2 = (2 : Int32) then (9 : Int32) else (3 : Int32)) h3 (fun r5 h6 => hasC h6 a0 2 ∧ (w_X3_digit a0 (0 : Int32) (5 : Int32) h6 (fun r8 h9 => hasC h9 a0 2 ∧ (w_X3_end a0 h9 (fun h12 => gfR h12 a0 2 3 (fun v13 => nn v13 (fun y14 => w_X3_hasSeal y14 (((10 : Int32) * r2) + r5) h12 (fun r15 h16 => hasC h16 a0 2 ∧ (w_X3_goes a0 r15 h16 (fun r18 h19 => (r18 = false → Q h19) ∧ (r18 = true → gfR h19 a0 2 3 (fun v21 => nn v21 (fun y22 => w_X3_goHang y22 (((10 : Int32) * r2) + r5) r8 h19 (fun r23 h24 => Q h24)))))))))))))))))
theorem sg_X3_readHang : ySg yX3_readHang 0 = true := by decide +kernel
theorem c_X3_readHang (G : gT) (l : Launch) (a0 : Nat) (h : Hp) (Q : Hp → Prop) (hw : w_X3_readHang a0 h Q) : Ct G l yX3_readHang (ws_ yX3_readHang cX3_readHang 4 (none)) 3 60 0 0 [.ref a0] h (pV Q) := by
  refine Ct.of (own := RX3) false (by decide +kernel) rfl (show (_ : Nat) ≤ _ from Nat.le_of_ble_eq_true rfl) (fun z => by cases z) (fun V C => ?_)
  show V h 0 0 0 [(0, .ref a0)] []
  unfold w_X3_readHang at hw
  refine r_aload_n C rfl 0 rfl dX3_readHang_0 (r_iconst (v := (0 : Int32)) C (by decide) dX3_readHang_1 (r_iconst (v := (2 : Int32)) C (by decide) dX3_readHang_2 ?_))
  obtain ⟨hq1, hw⟩ := hw
  refine r_callV (ci := 2) (rest := []) (As := [.int (0 : Int32), .int (2 : Int32)]) C sg_X3_digit rfl rfl q2258 q2260 qs45 q90 q2261 rfl (Nat.le_of_ble_eq_true rfl) dX3_readHang_3 rfl hq1 (Nat.le_refl _) (Nat.le_refl _) (c_X3_digit G l a0 (0 : Int32) (2 : Int32) h _ hw) (k_I (fun r2 h3 hw => ?_))
  refine r_istore_n (L' := [(1, .int r2), (0, .ref a0)]) C rfl (by decide) rfl dX3_readHang_6 (r_bipush (v := (10 : Int32)) C (by decide) dX3_readHang_7 (r_iload_n C rfl 0 rfl dX3_readHang_9 (r_imul C dX3_readHang_10 (r_aload_n C rfl 1 rfl dX3_readHang_11 (r_iconst (v := (0 : Int32)) C (by decide) dX3_readHang_12 ?_)))))
  refine r_iload_n C rfl 0 rfl dX3_readHang_13 (r_iconst (v := (2 : Int32)) C (by decide) dX3_readHang_14 ?_)
  have hJ : V h3 0 0 24 [(0, .ref a0)] [.int (if ¬ r2 = (2 : Int32) then (9 : Int32) else (3 : Int32)), .int (0 : Int32), .ref a0, .int ((10 : Int32) * r2)] := by
    obtain ⟨hq4, hw⟩ := hw
    refine r_callV (ci := 2) (rest := [.int ((10 : Int32) * r2)]) (As := [.int (0 : Int32), .int (if ¬ r2 = (2 : Int32) then (9 : Int32) else (3 : Int32))]) C sg_X3_digit rfl rfl q2258 q2260 qs45 q90 q2261 rfl (Nat.le_of_ble_eq_true rfl) dX3_readHang_24 rfl hq4 (Nat.le_refl _) (Nat.le_refl _) (c_X3_digit G l a0 (0 : Int32) (if ¬ r2 = (2 : Int32) then (9 : Int32) else (3 : Int32)) h3 _ hw) (k_I (fun r5 h6 hw => ?_))
    refine r_iadd C dX3_readHang_27 (r_istore_n (L' := [(2, .int (((10 : Int32) * r2) + r5)), (0, .ref a0)]) C rfl (by decide) rfl dX3_readHang_28 (r_aload_n C rfl 1 rfl dX3_readHang_29 (r_iconst (v := (0 : Int32)) C (by decide) dX3_readHang_30 (r_iconst (v := (5 : Int32)) C (by decide) dX3_readHang_31 ?_))))
    obtain ⟨hq7, hw⟩ := hw
    refine r_callV (ci := 2) (rest := []) (As := [.int (0 : Int32), .int (5 : Int32)]) C sg_X3_digit rfl rfl q2258 q2260 qs45 q90 q2261 rfl (Nat.le_of_ble_eq_true rfl) dX3_readHang_32 rfl hq7 (Nat.le_refl _) (Nat.le_refl _) (c_X3_digit G l a0 (0 : Int32) (5 : Int32) h6 _ hw) (k_I (fun r8 h9 hw => ?_))
    refine r_istore_n (L' := [(3, .int r8), (2, .int (((10 : Int32) * r2) + r5)), (0, .ref a0)]) C rfl (by decide) rfl dX3_readHang_35 (r_aload_n C rfl 2 rfl dX3_readHang_36 ?_)
    obtain ⟨hq10, hw⟩ := hw
    refine r_callV (ci := 2) (rest := []) (As := []) C sg_X3_end rfl rfl q2280 q2282 qs49 q90 q2283 rfl (Nat.le_of_ble_eq_true rfl) dX3_readHang_37 rfl hq10 (Nat.le_refl _) (Nat.le_refl _) (c_X3_end G l a0 h9 _ hw) (k_V (fun h12 hw => ?_))
    refine r_aload_n C rfl 2 rfl dX3_readHang_40 (r_aload_n C rfl 2 rfl dX3_readHang_41 ?_)
    refine r_gfR (k := 3) C kX3 (by decide) (Or.inl q2158) (Or.inl rfl) dX3_readHang_42 hw (fun v13 hw => ?_)
    refine r_iload_n C rfl 1 rfl dX3_readHang_45 ?_
    obtain ⟨y14, rfl, hw_y14⟩ := hw
    have hw := hw_y14
    refine r_callS (rest := [.ref a0]) (As := [.ref y14, .int (((10 : Int32) * r2) + r5)]) C sg_X3_hasSeal q2304 q2305 q90 q2306 rfl (Nat.le_of_ble_eq_true rfl) dX3_readHang_46 rfl (Nat.le_refl _) (Nat.le_refl _) (c_X3_hasSeal G l y14 (((10 : Int32) * r2) + r5) h12 _ hw) (k_Z (fun r15 h16 hw => ?_))
    obtain ⟨hq17, hw⟩ := hw
    refine r_callV (ci := 2) (rest := []) (As := [.int (bI r15)]) C sg_X3_goes rfl rfl q2269 q2271 qs47 q90 q2272 rfl (Nat.le_of_ble_eq_true rfl) dX3_readHang_49 rfl hq17 (Nat.le_refl _) (Nat.le_refl _) (c_X3_goes G l a0 r15 h16 _ hw) (k_Z (fun r18 h19 hw => ?_))
    refine r_if_eq_b (tgt := 65) C (by decide) dX3_readHang_52 (fun hc20 => ?_) (fun hc20 => ?_)
    · have hw := hw.1 hc20
      exact r_return C dX3_readHang_65 (Nat.le_refl _) (Nat.le_refl _) ⟨rfl, hw⟩
    · have hw := hw.2 hc20
      refine r_aload_n C rfl 2 rfl dX3_readHang_55 ?_
      refine r_gfR (k := 3) C kX3 (by decide) (Or.inl q2158) (Or.inl rfl) dX3_readHang_56 hw (fun v21 hw => ?_)
      refine r_iload_n C rfl 1 rfl dX3_readHang_59 (r_iload_n C rfl 0 rfl dX3_readHang_60 ?_)
      obtain ⟨y22, rfl, hw_y22⟩ := hw
      have hw := hw_y22
      refine r_callS (rest := []) (As := [.ref y22, .int (((10 : Int32) * r2) + r5), .int r8]) C sg_X3_goHang q2307 q2308 q90 q2309 rfl (Nat.le_of_ble_eq_true rfl) dX3_readHang_61 rfl (Nat.le_refl _) (Nat.le_refl _) (c_X3_goHang G l y22 (((10 : Int32) * r2) + r5) r8 h19 _ hw) (k_I (fun r23 h24 hw => ?_))
      refine r_pop C rfl dX3_readHang_64 ?_
      exact r_return C dX3_readHang_65 (Nat.le_refl _) (Nat.le_refl _) ⟨rfl, hw⟩
  refine r_icmp_ne (tgt := 22) C (by decide) dX3_readHang_15 (fun hc25 => ?_) (fun hc25 => ?_)
  · have hJ26 := hJ
    try simp only [if_pos hc25] at hJ26
    refine r_bipush (v := (9 : Int32)) C (by decide) dX3_readHang_22 ?_
    exact r_sub C [1] rfl hJ26
  · have hJ26 := hJ
    try simp only [if_neg (show ¬ ¬ r2 = (2 : Int32) from fun z => z hc25)] at hJ26
    refine r_iconst (v := (3 : Int32)) C (by decide) dX3_readHang_18 (r_goto (tgt := 24) C (by decide) dX3_readHang_19 ?_)
    exact r_sub C [1] rfl hJ26
def S_X3_readYear_9 (Q : Int32 → Hp → Prop) (LA9 : Hp → Nat → Int32 → Int32 → Prop) (h : Hp) (x0 : Nat) (x1 : Int32) (x2 : Int32) : Prop :=
  ((3 : Int32) ≤ x2 → Q x1 h) ∧ (¬ (3 : Int32) ≤ x2 → hasC h x0 2 ∧ (w_X3_digit x0 (0 : Int32) (9 : Int32) h (fun r3 h4 => LA9 h4 x0 (((10 : Int32) * x1) + r3) (x2 + (1 : Int32)))))
def B_X3_readYear_9 (Q : Int32 → Hp → Prop) : Nat → Hp → Nat → Int32 → Int32 → Prop
  | 0, _, _, _, _ => False
  | k + 1, h, x0, x1, x2 => S_X3_readYear_9 Q (B_X3_readYear_9 Q k) h x0 x1 x2
def w_X3_readYear (a0 : Nat) (h : Hp) (Q : Int32 → Hp → Prop) : Prop :=
  hasC h a0 2 ∧ (w_X3_digit a0 (1 : Int32) (1 : Int32) h (fun r6 h7 => ∃ k9 : Nat, B_X3_readYear_9 Q k9 h7 a0 r6 (0 : Int32)))
theorem s_X3_readYear_9 {G : gT} {l : Launch} {V : Hp → Nat → Nat → Nat → List (Nat × Value) → List Value → Prop} {Q : Int32 → Hp → Prop} (C : Cx G l V cX3_readYear 3 RX3 3 60 0 0 (pI Q) none (some .int) [] false) (LA9 : Hp → Nat → Int32 → Int32 → Prop) (hLA9 : ∀ (h : Hp) (x0 : Nat) (x1 : Int32) (x2 : Int32), LA9 h x0 x1 x2 → V h 0 0 9 [(0, .ref x0), (1, .int x1), (2, .int x2)] []) (h : Hp) (x0 : Nat) (x1 : Int32) (x2 : Int32) (hw : S_X3_readYear_9 Q LA9 h x0 x1 x2) : V h 0 0 9 [(0, .ref x0), (1, .int x1), (2, .int x2)] [] := by
  unfold S_X3_readYear_9 at hw
  refine r_iload_n C rfl 2 rfl dX3_readYear_9 (r_iconst (v := (3 : Int32)) C (by decide) dX3_readYear_10 ?_)
  refine r_icmp_ge (tgt := 33) C (by decide) dX3_readYear_11 (fun hc1 => ?_) (fun hc1 => ?_)
  · have hw := hw.1 hc1
    refine r_iload_n C rfl 1 rfl dX3_readYear_33 ?_
    exact r_ireturn C dX3_readYear_34 (Nat.le_refl _) (Nat.le_refl _) ⟨_, rfl, hw⟩
  · have hw := hw.2 hc1
    refine r_bipush (v := (10 : Int32)) C (by decide) dX3_readYear_14 (r_iload_n C rfl 1 rfl dX3_readYear_16 (r_imul C dX3_readYear_17 (r_aload_n C rfl 0 rfl dX3_readYear_18 (r_iconst (v := (0 : Int32)) C (by decide) dX3_readYear_19 (r_bipush (v := (9 : Int32)) C (by decide) dX3_readYear_20 ?_)))))
    obtain ⟨hq2, hw⟩ := hw
    refine r_callV (ci := 2) (rest := [.int ((10 : Int32) * x1)]) (As := [.int (0 : Int32), .int (9 : Int32)]) C sg_X3_digit rfl rfl q2258 q2260 qs45 q90 q2261 rfl (Nat.le_of_ble_eq_true rfl) dX3_readYear_22 rfl hq2 (Nat.le_refl _) (Nat.le_refl _) (c_X3_digit G l x0 (0 : Int32) (9 : Int32) h _ hw) (k_I (fun r3 h4 hw => ?_))
    refine r_iadd C dX3_readYear_25 (r_istore_n (L' := [(1, .int (((10 : Int32) * x1) + r3)), (0, .ref x0), (2, .int x2)]) C rfl (by decide) rfl dX3_readYear_26 (r_iinc (v := x2 + (1 : Int32)) (L' := [(2, .int (x2 + (1 : Int32))), (1, .int (((10 : Int32) * x1) + r3)), (0, .ref x0)]) C (u := 2) rfl (by rfl) (by decide) rfl dX3_readYear_27 (r_goto (tgt := 9) C (by decide) dX3_readYear_30 ?_)))
    exact r_sub C [2, 1, 0] rfl (hLA9 _ _ _ _ hw)
theorem b_X3_readYear_9 {G : gT} {l : Launch} {V : Hp → Nat → Nat → Nat → List (Nat × Value) → List Value → Prop} {Q : Int32 → Hp → Prop} (C : Cx G l V cX3_readYear 3 RX3 3 60 0 0 (pI Q) none (some .int) [] false) : ∀ (k : Nat) (h : Hp) (x0 : Nat) (x1 : Int32) (x2 : Int32), B_X3_readYear_9 Q k h x0 x1 x2 → V h 0 0 9 [(0, .ref x0), (1, .int x1), (2, .int x2)] [] := by
  intro k
  induction k with
  | zero =>
    intro h x0 x1 x2 hw
    exact hw.elim
  | succ k ih =>
    intro h x0 x1 x2 hw
    exact s_X3_readYear_9 C _ (fun h x0 x1 x2 hw => ih h x0 x1 x2 hw) h x0 x1 x2 hw
theorem sg_X3_readYear : ySg yX3_readYear 0 = true := by decide +kernel
theorem c_X3_readYear (G : gT) (l : Launch) (a0 : Nat) (h : Hp) (Q : Int32 → Hp → Prop) (hw : w_X3_readYear a0 h Q) : Ct G l yX3_readYear (ws_ yX3_readYear cX3_readYear 3 (some .int)) 3 60 0 0 [.ref a0] h (pI Q) := by
  refine Ct.of (own := RX3) false (by decide +kernel) rfl (show (_ : Nat) ≤ _ from Nat.le_of_ble_eq_true rfl) (fun z => by cases z) (fun V C => ?_)
  show V h 0 0 0 [(0, .ref a0)] []
  unfold w_X3_readYear at hw
  refine r_aload_n C rfl 0 rfl dX3_readYear_0 (r_iconst (v := (1 : Int32)) C (by decide) dX3_readYear_1 (r_iconst (v := (1 : Int32)) C (by decide) dX3_readYear_2 ?_))
  obtain ⟨hq5, hw⟩ := hw
  refine r_callV (ci := 2) (rest := []) (As := [.int (1 : Int32), .int (1 : Int32)]) C sg_X3_digit rfl rfl q2258 q2260 qs45 q90 q2261 rfl (Nat.le_of_ble_eq_true rfl) dX3_readYear_3 rfl hq5 (Nat.le_refl _) (Nat.le_refl _) (c_X3_digit G l a0 (1 : Int32) (1 : Int32) h _ hw) (k_I (fun r6 h7 hw => ?_))
  refine r_istore_n (L' := [(1, .int r6), (0, .ref a0)]) C rfl (by decide) rfl dX3_readYear_6 (r_iconst (v := (0 : Int32)) C (by decide) dX3_readYear_7 (r_istore_n (L' := [(2, .int (0 : Int32)), (1, .int r6), (0, .ref a0)]) C rfl (by decide) rfl dX3_readYear_8 ?_))
  obtain ⟨k9, hw⟩ := hw
  exact r_sub C [2, 1, 0] rfl (b_X3_readYear_9 C _ _ _ _ _ hw)
def B_X3_canCrack_54 (Q : Bool → Hp → Prop) (LA19 : Hp → Nat → Int32 → Int32 → Bool → Int32 → Prop) (h : Hp) (x0 : Nat) (x1 : Int32) (x2 : Int32) (x4 : Int32) (s0 : Bool) : Prop :=
  LA19 h x0 x1 x2 s0 (x4 + (1 : Int32))
def S_X3_canCrack_19 (Q : Bool → Hp → Prop) (LA19 : Hp → Nat → Int32 → Int32 → Bool → Int32 → Prop) (h : Hp) (x0 : Nat) (x1 : Int32) (x2 : Int32) (x3 : Bool) (x4 : Int32) : Prop :=
  rdI h x0 ((55 : Int32) + x1) (fun v1 => (v1 ≤ x4 → Q x3 h) ∧ (¬ v1 ≤ x4 → (x3 = false → B_X3_canCrack_54 Q LA19 h x0 x1 x2 x4 false) ∧ (x3 = true → rdI h x0 (((65 : Int32) + ((4 : Int32) * x1)) + x4) (fun v4 => B_X3_canCrack_54 Q LA19 h x0 x1 x2 x4 (if v4 = x2 then false else true)))))
def B_X3_canCrack_19 (Q : Bool → Hp → Prop) : Nat → Hp → Nat → Int32 → Int32 → Bool → Int32 → Prop
  | 0, _, _, _, _, _, _ => False
  | k + 1, h, x0, x1, x2, x3, x4 => S_X3_canCrack_19 Q (B_X3_canCrack_19 Q k) h x0 x1 x2 x3 x4
def w_X3_canCrack (a0 : Nat) (i1 : Int32) (i2 : Int32) (h : Hp) (Q : Bool → Hp → Prop) : Prop :=
  rdI h a0 ((55 : Int32) + i1) (fun v7 => ∃ k9 : Nat, B_X3_canCrack_19 Q k9 h a0 i1 i2 (if (4 : Int32) ≤ v7 then false else true) (0 : Int32))
theorem b_X3_canCrack_54 {G : gT} {l : Launch} {V : Hp → Nat → Nat → Nat → List (Nat × Value) → List Value → Prop} {Q : Bool → Hp → Prop} (C : Cx G l V cX3_canCrack 5 RX3 1 12 0 0 (pZ Q) none (some .boolean) [] false) (LA19 : Hp → Nat → Int32 → Int32 → Bool → Int32 → Prop) (hLA19 : ∀ (h : Hp) (x0 : Nat) (x1 : Int32) (x2 : Int32) (x3 : Bool) (x4 : Int32), LA19 h x0 x1 x2 x3 x4 → V h 0 0 19 [(0, .ref x0), (1, .int x1), (2, .int x2), (3, .int (bI x3)), (4, .int x4)] []) (h : Hp) (x0 : Nat) (x1 : Int32) (x2 : Int32) (x4 : Int32) (s0 : Bool) (hw : B_X3_canCrack_54 Q LA19 h x0 x1 x2 x4 s0) : V h 0 0 54 [(0, .ref x0), (1, .int x1), (2, .int x2), (4, .int x4)] [.int (bI s0)] := by
  unfold B_X3_canCrack_54 at hw
  refine r_istore_n (L' := [(3, .int (bI s0)), (0, .ref x0), (1, .int x1), (2, .int x2), (4, .int x4)]) C rfl (by decide) rfl dX3_canCrack_54 (r_iinc (v := x4 + (1 : Int32)) (L' := [(4, .int (x4 + (1 : Int32))), (3, .int (bI s0)), (0, .ref x0), (1, .int x1), (2, .int x2)]) C (u := 4) rfl (by rfl) (by decide) rfl dX3_canCrack_55 (r_goto (tgt := 19) C (by decide) dX3_canCrack_58 ?_))
  exact r_sub C [2, 3, 4, 1, 0] rfl (hLA19 _ _ _ _ _ _ hw)
theorem s_X3_canCrack_19 {G : gT} {l : Launch} {V : Hp → Nat → Nat → Nat → List (Nat × Value) → List Value → Prop} {Q : Bool → Hp → Prop} (C : Cx G l V cX3_canCrack 5 RX3 1 12 0 0 (pZ Q) none (some .boolean) [] false) (LA19 : Hp → Nat → Int32 → Int32 → Bool → Int32 → Prop) (hLA19 : ∀ (h : Hp) (x0 : Nat) (x1 : Int32) (x2 : Int32) (x3 : Bool) (x4 : Int32), LA19 h x0 x1 x2 x3 x4 → V h 0 0 19 [(0, .ref x0), (1, .int x1), (2, .int x2), (3, .int (bI x3)), (4, .int x4)] []) (h : Hp) (x0 : Nat) (x1 : Int32) (x2 : Int32) (x3 : Bool) (x4 : Int32) (hw : S_X3_canCrack_19 Q LA19 h x0 x1 x2 x3 x4) : V h 0 0 19 [(0, .ref x0), (1, .int x1), (2, .int x2), (3, .int (bI x3)), (4, .int x4)] [] := by
  unfold S_X3_canCrack_19 at hw
  refine r_iload C 4 rfl dX3_canCrack_19 (r_aload_n C rfl 0 rfl dX3_canCrack_21 (r_bipush (v := (55 : Int32)) C (by decide) dX3_canCrack_22 (r_iload_n C rfl 1 rfl dX3_canCrack_24 (r_iadd C dX3_canCrack_25 ?_))))
  refine r_iaload C dX3_canCrack_26 hw (fun v1 hw => ?_)
  refine r_icmp_ge (tgt := 61) C (by decide) dX3_canCrack_27 (fun hc2 => ?_) (fun hc2 => ?_)
  · have hw := hw.1 hc2
    refine r_iload_n C rfl 3 rfl dX3_canCrack_61 ?_
    exact r_zreturn (x := x3) C dX3_canCrack_62 (Nat.le_refl _) (Nat.le_refl _) ⟨_, rfl, hw⟩
  · have hw := hw.2 hc2
    refine r_iload_n C rfl 3 rfl dX3_canCrack_30 ?_
    refine r_if_eq_b (tgt := 53) C (by decide) dX3_canCrack_31 (fun hc3 => ?_) (fun hc3 => ?_)
    · have hw := hw.1 hc3
      refine r_iconst (v := (0 : Int32)) C (by decide) dX3_canCrack_53 ?_
      exact r_sub C [0, 1, 2, 4] rfl (b_X3_canCrack_54 C LA19 hLA19 _ _ _ _ _ _ hw)
    · have hw := hw.2 hc3
      refine r_aload_n C rfl 0 rfl dX3_canCrack_34 (r_bipush (v := (65 : Int32)) C (by decide) dX3_canCrack_35 (r_iconst (v := (4 : Int32)) C (by decide) dX3_canCrack_37 (r_iload_n C rfl 1 rfl dX3_canCrack_38 (r_imul C dX3_canCrack_39 (r_iadd C dX3_canCrack_40 ?_)))))
      refine r_iload C 4 rfl dX3_canCrack_41 (r_iadd C dX3_canCrack_43 ?_)
      refine r_iaload C dX3_canCrack_44 hw (fun v4 hw => ?_)
      refine r_iload_n C rfl 2 rfl dX3_canCrack_45 ?_
      have hJ : V h 0 0 54 [(0, .ref x0), (1, .int x1), (2, .int x2), (4, .int x4)] [.int (bI (if v4 = x2 then false else true))] := by
        exact r_sub C [0, 1, 2, 3] rfl (b_X3_canCrack_54 C LA19 hLA19 _ _ _ _ _ _ hw)
      refine r_icmp_eq (tgt := 53) C (by decide) dX3_canCrack_46 (fun hc5 => ?_) (fun hc5 => ?_)
      · have hJ6 := hJ
        try simp only [if_pos hc5] at hJ6
        refine r_iconst (v := (0 : Int32)) C (by decide) dX3_canCrack_53 ?_
        exact r_sub C [0, 1, 2, 4] rfl hJ6
      · have hJ6 := hJ
        try simp only [if_neg hc5] at hJ6
        refine r_iconst (v := (1 : Int32)) C (by decide) dX3_canCrack_49 (r_goto (tgt := 54) C (by decide) dX3_canCrack_50 ?_)
        exact r_sub C [0, 1, 2, 4] rfl hJ6
theorem b_X3_canCrack_19 {G : gT} {l : Launch} {V : Hp → Nat → Nat → Nat → List (Nat × Value) → List Value → Prop} {Q : Bool → Hp → Prop} (C : Cx G l V cX3_canCrack 5 RX3 1 12 0 0 (pZ Q) none (some .boolean) [] false) : ∀ (k : Nat) (h : Hp) (x0 : Nat) (x1 : Int32) (x2 : Int32) (x3 : Bool) (x4 : Int32), B_X3_canCrack_19 Q k h x0 x1 x2 x3 x4 → V h 0 0 19 [(0, .ref x0), (1, .int x1), (2, .int x2), (3, .int (bI x3)), (4, .int x4)] [] := by
  intro k
  induction k with
  | zero =>
    intro h x0 x1 x2 x3 x4 hw
    exact hw.elim
  | succ k ih =>
    intro h x0 x1 x2 x3 x4 hw
    exact s_X3_canCrack_19 C _ (fun h x0 x1 x2 x3 x4 hw => ih h x0 x1 x2 x3 x4 hw) h x0 x1 x2 x3 x4 hw
theorem sg_X3_canCrack : ySg yX3_canCrack 3 = true := by decide +kernel
theorem c_X3_canCrack (G : gT) (l : Launch) (a0 : Nat) (i1 : Int32) (i2 : Int32) (h : Hp) (Q : Bool → Hp → Prop) (hw : w_X3_canCrack a0 i1 i2 h Q) : Ct G l yX3_canCrack (ws_ yX3_canCrack cX3_canCrack 5 (some .boolean)) 1 12 0 0 [.ref a0, .int i1, .int i2] h (pZ Q) := by
  refine Ct.of (own := RX3) false (by decide +kernel) rfl (show (_ : Nat) ≤ _ from Nat.le_of_ble_eq_true rfl) (fun z => by cases z) (fun V C => ?_)
  show V h 0 0 0 [(0, .ref a0), (1, .int i1), (2, .int i2)] []
  unfold w_X3_canCrack at hw
  refine r_aload_n C rfl 0 rfl dX3_canCrack_0 (r_bipush (v := (55 : Int32)) C (by decide) dX3_canCrack_1 (r_iload_n C rfl 1 rfl dX3_canCrack_3 (r_iadd C dX3_canCrack_4 ?_)))
  refine r_iaload C dX3_canCrack_5 hw (fun v7 hw => ?_)
  refine r_iconst (v := (4 : Int32)) C (by decide) dX3_canCrack_6 ?_
  have hJ : V h 0 0 15 [(0, .ref a0), (1, .int i1), (2, .int i2)] [.int (bI (if (4 : Int32) ≤ v7 then false else true))] := by
    refine r_istore_n (L' := [(3, .int (bI (if (4 : Int32) ≤ v7 then false else true))), (0, .ref a0), (1, .int i1), (2, .int i2)]) C rfl (by decide) rfl dX3_canCrack_15 (r_iconst (v := (0 : Int32)) C (by decide) dX3_canCrack_16 (r_istore (L' := [(4, .int (0 : Int32)), (3, .int (bI (if (4 : Int32) ≤ v7 then false else true))), (0, .ref a0), (1, .int i1), (2, .int i2)]) C (by decide) rfl dX3_canCrack_17 ?_))
    obtain ⟨k9, hw⟩ := hw
    exact r_sub C [2, 3, 4, 1, 0] rfl (b_X3_canCrack_19 C _ _ _ _ _ _ _ hw)
  refine r_icmp_ge (tgt := 14) C (by decide) dX3_canCrack_7 (fun hc8 => ?_) (fun hc8 => ?_)
  · have hJ9 := hJ
    try simp only [if_pos hc8] at hJ9
    refine r_iconst (v := (0 : Int32)) C (by decide) dX3_canCrack_14 ?_
    exact r_sub C [0, 1, 2] rfl hJ9
  · have hJ9 := hJ
    try simp only [if_neg hc8] at hJ9
    refine r_iconst (v := (1 : Int32)) C (by decide) dX3_canCrack_10 (r_goto (tgt := 15) C (by decide) dX3_canCrack_11 ?_)
    exact r_sub C [0, 1, 2] rfl hJ9
def w_X3_goCrack (a0 : Nat) (i1 : Int32) (i2 : Int32) (h : Hp) (Q : Int32 → Hp → Prop) : Prop :=
  rdI h a0 ((55 : Int32) + i1) (fun v1 => wrI h a0 (((65 : Int32) + ((4 : Int32) * i1)) + v1) i2 (fun h2 => rdI h2 a0 ((55 : Int32) + i1) (fun v3 => wrI h2 a0 ((55 : Int32) + i1) (v3 + (1 : Int32)) (fun h4 => rdI h4 a0 ((55 : Int32) + i1) (fun v5 => Q (v5 - (1 : Int32)) h4)))))
theorem sg_X3_goCrack : ySg yX3_goCrack 3 = true := by decide +kernel
theorem c_X3_goCrack (G : gT) (l : Launch) (a0 : Nat) (i1 : Int32) (i2 : Int32) (h : Hp) (Q : Int32 → Hp → Prop) (hw : w_X3_goCrack a0 i1 i2 h Q) : Ct G l yX3_goCrack (ws_ yX3_goCrack cX3_goCrack 3 (some .int)) 1 12 0 0 [.ref a0, .int i1, .int i2] h (pI Q) := by
  refine Ct.of (own := RX3) false (by decide +kernel) rfl (show (_ : Nat) ≤ _ from Nat.le_of_ble_eq_true rfl) (fun z => by cases z) (fun V C => ?_)
  show V h 0 0 0 [(0, .ref a0), (1, .int i1), (2, .int i2)] []
  unfold w_X3_goCrack at hw
  refine r_aload_n C rfl 0 rfl dX3_goCrack_0 (r_bipush (v := (65 : Int32)) C (by decide) dX3_goCrack_1 (r_iconst (v := (4 : Int32)) C (by decide) dX3_goCrack_3 (r_iload_n C rfl 1 rfl dX3_goCrack_4 (r_imul C dX3_goCrack_5 (r_iadd C dX3_goCrack_6 ?_)))))
  refine r_aload_n C rfl 0 rfl dX3_goCrack_7 (r_bipush (v := (55 : Int32)) C (by decide) dX3_goCrack_8 (r_iload_n C rfl 1 rfl dX3_goCrack_10 (r_iadd C dX3_goCrack_11 ?_)))
  refine r_iaload C dX3_goCrack_12 hw (fun v1 hw => ?_)
  refine r_iadd C dX3_goCrack_13 (r_iload_n C rfl 2 rfl dX3_goCrack_14 ?_)
  refine r_iastore C dX3_goCrack_15 hw (fun h2 hw => ?_)
  refine r_aload_n C rfl 0 rfl dX3_goCrack_16 (r_bipush (v := (55 : Int32)) C (by decide) dX3_goCrack_17 (r_iload_n C rfl 1 rfl dX3_goCrack_19 (r_iadd C dX3_goCrack_20 (r_dup2_11 C rfl rfl dX3_goCrack_21 ?_))))
  refine r_iaload C dX3_goCrack_22 hw (fun v3 hw => ?_)
  refine r_iconst (v := (1 : Int32)) C (by decide) dX3_goCrack_23 (r_iadd C dX3_goCrack_24 ?_)
  refine r_iastore C dX3_goCrack_25 hw (fun h4 hw => ?_)
  refine r_aload_n C rfl 0 rfl dX3_goCrack_26 (r_bipush (v := (55 : Int32)) C (by decide) dX3_goCrack_27 (r_iload_n C rfl 1 rfl dX3_goCrack_29 (r_iadd C dX3_goCrack_30 ?_)))
  refine r_iaload C dX3_goCrack_31 hw (fun v5 hw => ?_)
  refine r_iconst (v := (1 : Int32)) C (by decide) dX3_goCrack_32 (r_isub C dX3_goCrack_33 ?_)
  exact r_ireturn C dX3_goCrack_34 (Nat.le_refl _) (Nat.le_refl _) ⟨_, rfl, hw⟩
def B_X3_readCrack_46 (Q : Hp → Prop) (h : Hp) (x0 : Nat) (x1 : Int32) (x2 : Int32) (s0 : Nat) (s1 : Bool) : Prop :=
  hasC h s0 2 ∧ (w_X3_goes s0 s1 h (fun r2 h3 => (r2 = false → Q h3) ∧ (r2 = true → gfR h3 x0 2 3 (fun v5 => nn v5 (fun y6 => w_X3_goCrack y6 x1 x2 h3 (fun r7 h8 => Q h8))))))
def w_X3_readCrack (a0 : Nat) (h : Hp) (Q : Hp → Prop) : Prop :=
  hasC h a0 2 ∧ (w_X3_digit a0 (0 : Int32) (9 : Int32) h (fun r10 h11 => hasC h11 a0 2 ∧ (w_X3_readYear a0 h11 (fun r13 h14 => hasC h14 a0 2 ∧ (w_X3_end a0 h14 (fun h17 => gfR h17 a0 2 3 (fun v18 => nn v18 (fun y19 => w_X3_hasDie y19 r10 h17 (fun r20 h21 => (r20 = false → B_X3_readCrack_46 Q h21 a0 r10 r13 a0 false) ∧ (r20 = true → gfR h21 a0 2 3 (fun v23 => nn v23 (fun y24 => w_X3_canCrack y24 r10 r13 h21 (fun r25 h26 => B_X3_readCrack_46 Q h26 a0 r10 r13 a0 (if r25 = false then false else true))))))))))))))
theorem b_X3_readCrack_46 {G : gT} {l : Launch} {V : Hp → Nat → Nat → Nat → List (Nat × Value) → List Value → Prop} {Q : Hp → Prop} (C : Cx G l V cX3_readCrack 3 RX3 4 82 0 0 (pV Q) none (none) [] false) (h : Hp) (x0 : Nat) (x1 : Int32) (x2 : Int32) (s0 : Nat) (s1 : Bool) (hw : B_X3_readCrack_46 Q h x0 x1 x2 s0 s1) : V h 0 0 46 [(0, .ref x0), (1, .int x1), (2, .int x2)] [.int (bI s1), .ref s0] := by
  unfold B_X3_readCrack_46 at hw
  obtain ⟨hq1, hw⟩ := hw
  refine r_callV (ci := 2) (rest := []) (As := [.int (bI s1)]) C sg_X3_goes rfl rfl q2269 q2271 qs47 q90 q2272 rfl (Nat.le_of_ble_eq_true rfl) dX3_readCrack_46 rfl hq1 (Nat.le_refl _) (Nat.le_refl _) (c_X3_goes G l s0 s1 h _ hw) (k_Z (fun r2 h3 hw => ?_))
  refine r_if_eq_b (tgt := 62) C (by decide) dX3_readCrack_49 (fun hc4 => ?_) (fun hc4 => ?_)
  · have hw := hw.1 hc4
    exact r_return C dX3_readCrack_62 (Nat.le_refl _) (Nat.le_refl _) ⟨rfl, hw⟩
  · have hw := hw.2 hc4
    refine r_aload_n C rfl 0 rfl dX3_readCrack_52 ?_
    refine r_gfR (k := 3) C kX3 (by decide) (Or.inl q2158) (Or.inl rfl) dX3_readCrack_53 hw (fun v5 hw => ?_)
    refine r_iload_n C rfl 1 rfl dX3_readCrack_56 (r_iload_n C rfl 2 rfl dX3_readCrack_57 ?_)
    obtain ⟨y6, rfl, hw_y6⟩ := hw
    have hw := hw_y6
    refine r_callS (rest := []) (As := [.ref y6, .int x1, .int x2]) C sg_X3_goCrack q2297 q2298 q90 q2299 rfl (Nat.le_of_ble_eq_true rfl) dX3_readCrack_58 rfl (Nat.le_refl _) (Nat.le_refl _) (c_X3_goCrack G l y6 x1 x2 h3 _ hw) (k_I (fun r7 h8 hw => ?_))
    refine r_pop C rfl dX3_readCrack_61 ?_
    exact r_return C dX3_readCrack_62 (Nat.le_refl _) (Nat.le_refl _) ⟨rfl, hw⟩
theorem sg_X3_readCrack : ySg yX3_readCrack 0 = true := by decide +kernel
theorem c_X3_readCrack (G : gT) (l : Launch) (a0 : Nat) (h : Hp) (Q : Hp → Prop) (hw : w_X3_readCrack a0 h Q) : Ct G l yX3_readCrack (ws_ yX3_readCrack cX3_readCrack 3 (none)) 4 82 0 0 [.ref a0] h (pV Q) := by
  refine Ct.of (own := RX3) false (by decide +kernel) rfl (show (_ : Nat) ≤ _ from Nat.le_of_ble_eq_true rfl) (fun z => by cases z) (fun V C => ?_)
  show V h 0 0 0 [(0, .ref a0)] []
  unfold w_X3_readCrack at hw
  refine r_aload_n C rfl 0 rfl dX3_readCrack_0 (r_iconst (v := (0 : Int32)) C (by decide) dX3_readCrack_1 (r_bipush (v := (9 : Int32)) C (by decide) dX3_readCrack_2 ?_))
  obtain ⟨hq9, hw⟩ := hw
  refine r_callV (ci := 2) (rest := []) (As := [.int (0 : Int32), .int (9 : Int32)]) C sg_X3_digit rfl rfl q2258 q2260 qs45 q90 q2261 rfl (Nat.le_of_ble_eq_true rfl) dX3_readCrack_4 rfl hq9 (Nat.le_refl _) (Nat.le_refl _) (c_X3_digit G l a0 (0 : Int32) (9 : Int32) h _ hw) (k_I (fun r10 h11 hw => ?_))
  refine r_istore_n (L' := [(1, .int r10), (0, .ref a0)]) C rfl (by decide) rfl dX3_readCrack_7 (r_aload_n C rfl 1 rfl dX3_readCrack_8 ?_)
  obtain ⟨hq12, hw⟩ := hw
  refine r_callV (ci := 2) (rest := []) (As := []) C sg_X3_readYear rfl rfl q2254 q2256 qs44 q90 q2257 rfl (Nat.le_of_ble_eq_true rfl) dX3_readCrack_9 rfl hq12 (Nat.le_refl _) (Nat.le_refl _) (c_X3_readYear G l a0 h11 _ hw) (k_I (fun r13 h14 hw => ?_))
  refine r_istore_n (L' := [(2, .int r13), (1, .int r10), (0, .ref a0)]) C rfl (by decide) rfl dX3_readCrack_12 (r_aload_n C rfl 2 rfl dX3_readCrack_13 ?_)
  obtain ⟨hq15, hw⟩ := hw
  refine r_callV (ci := 2) (rest := []) (As := []) C sg_X3_end rfl rfl q2280 q2282 qs49 q90 q2283 rfl (Nat.le_of_ble_eq_true rfl) dX3_readCrack_14 rfl hq15 (Nat.le_refl _) (Nat.le_refl _) (c_X3_end G l a0 h14 _ hw) (k_V (fun h17 hw => ?_))
  refine r_aload_n C rfl 2 rfl dX3_readCrack_17 (r_aload_n C rfl 2 rfl dX3_readCrack_18 ?_)
  refine r_gfR (k := 3) C kX3 (by decide) (Or.inl q2158) (Or.inl rfl) dX3_readCrack_19 hw (fun v18 hw => ?_)
  refine r_iload_n C rfl 1 rfl dX3_readCrack_22 ?_
  obtain ⟨y19, rfl, hw_y19⟩ := hw
  have hw := hw_y19
  refine r_callS (rest := [.ref a0]) (As := [.ref y19, .int r10]) C sg_X3_hasDie q2291 q2292 q90 q2293 rfl (Nat.le_of_ble_eq_true rfl) dX3_readCrack_23 rfl (Nat.le_refl _) (Nat.le_refl _) (c_X3_hasDie G l y19 r10 h17 _ hw) (k_Z (fun r20 h21 hw => ?_))
  refine r_if_eq_b (tgt := 45) C (by decide) dX3_readCrack_26 (fun hc22 => ?_) (fun hc22 => ?_)
  · have hw := hw.1 hc22
    refine r_iconst (v := (0 : Int32)) C (by decide) dX3_readCrack_45 ?_
    exact r_sub C [2, 1, 0] rfl (b_X3_readCrack_46 C _ _ _ _ _ _ hw)
  · have hw := hw.2 hc22
    refine r_aload_n C rfl 2 rfl dX3_readCrack_29 ?_
    refine r_gfR (k := 3) C kX3 (by decide) (Or.inl q2158) (Or.inl rfl) dX3_readCrack_30 hw (fun v23 hw => ?_)
    refine r_iload_n C rfl 1 rfl dX3_readCrack_33 (r_iload_n C rfl 0 rfl dX3_readCrack_34 ?_)
    obtain ⟨y24, rfl, hw_y24⟩ := hw
    have hw := hw_y24
    refine r_callS (rest := [.ref a0]) (As := [.ref y24, .int r10, .int r13]) C sg_X3_canCrack q2294 q2295 q90 q2296 rfl (Nat.le_of_ble_eq_true rfl) dX3_readCrack_35 rfl (Nat.le_refl _) (Nat.le_refl _) (c_X3_canCrack G l y24 r10 r13 h21 _ hw) (k_Z (fun r25 h26 hw => ?_))
    have hJ : V h26 0 0 46 [(2, .int r13), (1, .int r10), (0, .ref a0)] [.int (bI (if r25 = false then false else true)), .ref a0] := by
      exact r_sub C [2, 1, 0] rfl (b_X3_readCrack_46 C _ _ _ _ _ _ hw)
    refine r_if_eq_b (tgt := 45) C (by decide) dX3_readCrack_38 (fun hc27 => ?_) (fun hc27 => ?_)
    · have hJ28 := hJ
      try simp only [if_pos hc27] at hJ28
      refine r_iconst (v := (0 : Int32)) C (by decide) dX3_readCrack_45 ?_
      exact r_sub C [0, 1, 2] rfl hJ28
    · have hJ28 := hJ
      try simp only [if_neg (show ¬ r25 = false from by rw [hc27]; decide)] at hJ28
      refine r_iconst (v := (1 : Int32)) C (by decide) dX3_readCrack_41 (r_goto (tgt := 46) C (by decide) dX3_readCrack_42 ?_)
      exact r_sub C [0, 1, 2] rfl hJ28
def w_X3_goDie (a0 : Nat) (i1 : Int32) (i2 : Int32) (i3 : Int32) (h : Hp) (Q : Int32 → Hp → Prop) : Prop :=
  rdI h a0 (1 : Int32) (fun v1 => wrI h a0 ((25 : Int32) + v1) i1 (fun h2 => wrI h2 a0 ((35 : Int32) + v1) i2 (fun h3 => wrI h3 a0 ((45 : Int32) + v1) i3 (fun h4 => wrI h4 a0 ((55 : Int32) + v1) (0 : Int32) (fun h5 => rdI h5 a0 (1 : Int32) (fun v6 => wrI h5 a0 (1 : Int32) (v6 + (1 : Int32)) (fun h7 => Q v1 h7)))))))
theorem sg_X3_goDie : ySg yX3_goDie 4 = true := by decide +kernel
theorem c_X3_goDie (G : gT) (l : Launch) (a0 : Nat) (i1 : Int32) (i2 : Int32) (i3 : Int32) (h : Hp) (Q : Int32 → Hp → Prop) (hw : w_X3_goDie a0 i1 i2 i3 h Q) : Ct G l yX3_goDie (ws_ yX3_goDie cX3_goDie 5 (some .int)) 1 12 0 0 [.ref a0, .int i1, .int i2, .int i3] h (pI Q) := by
  refine Ct.of (own := RX3) false (by decide +kernel) rfl (show (_ : Nat) ≤ _ from Nat.le_of_ble_eq_true rfl) (fun z => by cases z) (fun V C => ?_)
  show V h 0 0 0 [(0, .ref a0), (1, .int i1), (2, .int i2), (3, .int i3)] []
  unfold w_X3_goDie at hw
  refine r_aload_n C rfl 0 rfl dX3_goDie_0 (r_iconst (v := (1 : Int32)) C (by decide) dX3_goDie_1 ?_)
  refine r_iaload C dX3_goDie_2 hw (fun v1 hw => ?_)
  refine r_istore (L' := [(4, .int v1), (0, .ref a0), (1, .int i1), (2, .int i2), (3, .int i3)]) C (by decide) rfl dX3_goDie_3 (r_aload_n C rfl 1 rfl dX3_goDie_5 (r_bipush (v := (25 : Int32)) C (by decide) dX3_goDie_6 (r_iload C 0 rfl dX3_goDie_8 (r_iadd C dX3_goDie_10 (r_iload_n C rfl 2 rfl dX3_goDie_11 ?_)))))
  refine r_iastore C dX3_goDie_12 hw (fun h2 hw => ?_)
  refine r_aload_n C rfl 1 rfl dX3_goDie_13 (r_bipush (v := (35 : Int32)) C (by decide) dX3_goDie_14 (r_iload C 0 rfl dX3_goDie_16 (r_iadd C dX3_goDie_18 (r_iload_n C rfl 3 rfl dX3_goDie_19 ?_))))
  refine r_iastore C dX3_goDie_20 hw (fun h3 hw => ?_)
  refine r_aload_n C rfl 1 rfl dX3_goDie_21 (r_bipush (v := (45 : Int32)) C (by decide) dX3_goDie_22 (r_iload C 0 rfl dX3_goDie_24 (r_iadd C dX3_goDie_26 (r_iload_n C rfl 4 rfl dX3_goDie_27 ?_))))
  refine r_iastore C dX3_goDie_28 hw (fun h4 hw => ?_)
  refine r_aload_n C rfl 1 rfl dX3_goDie_29 (r_bipush (v := (55 : Int32)) C (by decide) dX3_goDie_30 (r_iload C 0 rfl dX3_goDie_32 (r_iadd C dX3_goDie_34 (r_iconst (v := (0 : Int32)) C (by decide) dX3_goDie_35 ?_))))
  refine r_iastore C dX3_goDie_36 hw (fun h5 hw => ?_)
  refine r_aload_n C rfl 1 rfl dX3_goDie_37 (r_iconst (v := (1 : Int32)) C (by decide) dX3_goDie_38 (r_dup2_11 C rfl rfl dX3_goDie_39 ?_))
  refine r_iaload C dX3_goDie_40 hw (fun v6 hw => ?_)
  refine r_iconst (v := (1 : Int32)) C (by decide) dX3_goDie_41 (r_iadd C dX3_goDie_42 ?_)
  refine r_iastore C dX3_goDie_43 hw (fun h7 hw => ?_)
  refine r_iload C 0 rfl dX3_goDie_44 ?_
  exact r_ireturn C dX3_goDie_46 (Nat.le_refl _) (Nat.le_refl _) ⟨_, rfl, hw⟩
def B_X3_readDie_61 (Q : Hp → Prop) (h : Hp) (x0 : Nat) (x1 : Int32) (x2 : Int32) (x3 : Int32) (s0 : Nat) (s1 : Bool) : Prop :=
  hasC h s0 2 ∧ (w_X3_goes s0 s1 h (fun r2 h3 => (r2 = false → Q h3) ∧ (r2 = true → gfR h3 x0 2 3 (fun v5 => nn v5 (fun y6 => w_X3_goDie y6 x1 x2 x3 h3 (fun r7 h8 => Q h8))))))
def w_X3_readDie (a0 : Nat) (h : Hp) (Q : Hp → Prop) : Prop :=
  hasC h a0 2 ∧ (w_X3_digit a0 (0 : Int32) (5 : Int32) h (fun r10 h11 => hasC h11 a0 2 ∧ (w_X3_readYear a0 h11 (fun r13 h14 => hasC h14 a0 2 ∧ (w_X3_here a0 h14 (fun r16 h17 => hasC h17 a0 2 ∧ (w_X3_eat a0 (if ¬ r16 = (45 : Int32) then false else true) h17 (fun h20 => hasC h20 a0 2 ∧ (w_X3_readYear a0 h20 (fun r22 h23 => hasC h23 a0 2 ∧ (w_X3_end a0 h23 (fun h26 => (r22 < r13 → B_X3_readDie_61 Q h26 a0 r10 r13 r22 a0 false) ∧ (¬ r22 < r13 → gfR h26 a0 2 3 (fun v28 => nn v28 (fun y29 => rdI h26 y29 (1 : Int32) (fun v30 => B_X3_readDie_61 Q h26 a0 r10 r13 r22 a0 (if (10 : Int32) ≤ v30 then false else true)))))))))))))))))
theorem b_X3_readDie_61 {G : gT} {l : Launch} {V : Hp → Nat → Nat → Nat → List (Nat × Value) → List Value → Prop} {Q : Hp → Prop} (C : Cx G l V cX3_readDie 4 RX3 4 82 0 0 (pV Q) none (none) [] false) (h : Hp) (x0 : Nat) (x1 : Int32) (x2 : Int32) (x3 : Int32) (s0 : Nat) (s1 : Bool) (hw : B_X3_readDie_61 Q h x0 x1 x2 x3 s0 s1) : V h 0 0 61 [(0, .ref x0), (1, .int x1), (2, .int x2), (3, .int x3)] [.int (bI s1), .ref s0] := by
  unfold B_X3_readDie_61 at hw
  obtain ⟨hq1, hw⟩ := hw
  refine r_callV (ci := 2) (rest := []) (As := [.int (bI s1)]) C sg_X3_goes rfl rfl q2269 q2271 qs47 q90 q2272 rfl (Nat.le_of_ble_eq_true rfl) dX3_readDie_61 rfl hq1 (Nat.le_refl _) (Nat.le_refl _) (c_X3_goes G l s0 s1 h _ hw) (k_Z (fun r2 h3 hw => ?_))
  refine r_if_eq_b (tgt := 78) C (by decide) dX3_readDie_64 (fun hc4 => ?_) (fun hc4 => ?_)
  · have hw := hw.1 hc4
    exact r_return C dX3_readDie_78 (Nat.le_refl _) (Nat.le_refl _) ⟨rfl, hw⟩
  · have hw := hw.2 hc4
    refine r_aload_n C rfl 0 rfl dX3_readDie_67 ?_
    refine r_gfR (k := 3) C kX3 (by decide) (Or.inl q2158) (Or.inl rfl) dX3_readDie_68 hw (fun v5 hw => ?_)
    refine r_iload_n C rfl 1 rfl dX3_readDie_71 (r_iload_n C rfl 2 rfl dX3_readDie_72 (r_iload_n C rfl 3 rfl dX3_readDie_73 ?_))
    obtain ⟨y6, rfl, hw_y6⟩ := hw
    have hw := hw_y6
    refine r_callS (rest := []) (As := [.ref y6, .int x1, .int x2, .int x3]) C sg_X3_goDie q2284 q2285 q90 q2286 rfl (Nat.le_of_ble_eq_true rfl) dX3_readDie_74 rfl (Nat.le_refl _) (Nat.le_refl _) (c_X3_goDie G l y6 x1 x2 x3 h3 _ hw) (k_I (fun r7 h8 hw => ?_))
    refine r_pop C rfl dX3_readDie_77 ?_
    exact r_return C dX3_readDie_78 (Nat.le_refl _) (Nat.le_refl _) ⟨rfl, hw⟩
theorem sg_X3_readDie : ySg yX3_readDie 0 = true := by decide +kernel
theorem c_X3_readDie (G : gT) (l : Launch) (a0 : Nat) (h : Hp) (Q : Hp → Prop) (hw : w_X3_readDie a0 h Q) : Ct G l yX3_readDie (ws_ yX3_readDie cX3_readDie 4 (none)) 4 82 0 0 [.ref a0] h (pV Q) := by
  refine Ct.of (own := RX3) false (by decide +kernel) rfl (show (_ : Nat) ≤ _ from Nat.le_of_ble_eq_true rfl) (fun z => by cases z) (fun V C => ?_)
  show V h 0 0 0 [(0, .ref a0)] []
  unfold w_X3_readDie at hw
  refine r_aload_n C rfl 0 rfl dX3_readDie_0 (r_iconst (v := (0 : Int32)) C (by decide) dX3_readDie_1 (r_iconst (v := (5 : Int32)) C (by decide) dX3_readDie_2 ?_))
  obtain ⟨hq9, hw⟩ := hw
  refine r_callV (ci := 2) (rest := []) (As := [.int (0 : Int32), .int (5 : Int32)]) C sg_X3_digit rfl rfl q2258 q2260 qs45 q90 q2261 rfl (Nat.le_of_ble_eq_true rfl) dX3_readDie_3 rfl hq9 (Nat.le_refl _) (Nat.le_refl _) (c_X3_digit G l a0 (0 : Int32) (5 : Int32) h _ hw) (k_I (fun r10 h11 hw => ?_))
  refine r_istore_n (L' := [(1, .int r10), (0, .ref a0)]) C rfl (by decide) rfl dX3_readDie_6 (r_aload_n C rfl 1 rfl dX3_readDie_7 ?_)
  obtain ⟨hq12, hw⟩ := hw
  refine r_callV (ci := 2) (rest := []) (As := []) C sg_X3_readYear rfl rfl q2254 q2256 qs44 q90 q2257 rfl (Nat.le_of_ble_eq_true rfl) dX3_readDie_8 rfl hq12 (Nat.le_refl _) (Nat.le_refl _) (c_X3_readYear G l a0 h11 _ hw) (k_I (fun r13 h14 hw => ?_))
  refine r_istore_n (L' := [(2, .int r13), (1, .int r10), (0, .ref a0)]) C rfl (by decide) rfl dX3_readDie_11 (r_aload_n C rfl 2 rfl dX3_readDie_12 (r_aload_n C rfl 2 rfl dX3_readDie_13 ?_))
  obtain ⟨hq15, hw⟩ := hw
  refine r_callV (ci := 2) (rest := [.ref a0]) (As := []) C sg_X3_here rfl rfl q2242 q2244 qs41 q90 q2245 rfl (Nat.le_of_ble_eq_true rfl) dX3_readDie_14 rfl hq15 (Nat.le_refl _) (Nat.le_refl _) (c_X3_here G l a0 h14 _ hw) (k_I (fun r16 h17 hw => ?_))
  refine r_bipush (v := (45 : Int32)) C (by decide) dX3_readDie_17 ?_
  have hJ : V h17 0 0 27 [(2, .int r13), (1, .int r10), (0, .ref a0)] [.int (bI (if ¬ r16 = (45 : Int32) then false else true)), .ref a0] := by
    obtain ⟨hq18, hw⟩ := hw
    refine r_callV (ci := 2) (rest := []) (As := [.int (bI (if ¬ r16 = (45 : Int32) then false else true))]) C sg_X3_eat rfl rfl q2246 q2248 qs42 q90 q2249 rfl (Nat.le_of_ble_eq_true rfl) dX3_readDie_27 rfl hq18 (Nat.le_refl _) (Nat.le_refl _) (c_X3_eat G l a0 (if ¬ r16 = (45 : Int32) then false else true) h17 _ hw) (k_V (fun h20 hw => ?_))
    refine r_aload_n C rfl 2 rfl dX3_readDie_30 ?_
    obtain ⟨hq21, hw⟩ := hw
    refine r_callV (ci := 2) (rest := []) (As := []) C sg_X3_readYear rfl rfl q2254 q2256 qs44 q90 q2257 rfl (Nat.le_of_ble_eq_true rfl) dX3_readDie_31 rfl hq21 (Nat.le_refl _) (Nat.le_refl _) (c_X3_readYear G l a0 h20 _ hw) (k_I (fun r22 h23 hw => ?_))
    refine r_istore_n (L' := [(3, .int r22), (2, .int r13), (1, .int r10), (0, .ref a0)]) C rfl (by decide) rfl dX3_readDie_34 (r_aload_n C rfl 3 rfl dX3_readDie_35 ?_)
    obtain ⟨hq24, hw⟩ := hw
    refine r_callV (ci := 2) (rest := []) (As := []) C sg_X3_end rfl rfl q2280 q2282 qs49 q90 q2283 rfl (Nat.le_of_ble_eq_true rfl) dX3_readDie_36 rfl hq24 (Nat.le_refl _) (Nat.le_refl _) (c_X3_end G l a0 h23 _ hw) (k_V (fun h26 hw => ?_))
    refine r_aload_n C rfl 3 rfl dX3_readDie_39 (r_iload_n C rfl 0 rfl dX3_readDie_40 (r_iload_n C rfl 1 rfl dX3_readDie_41 ?_))
    refine r_icmp_lt (tgt := 60) C (by decide) dX3_readDie_42 (fun hc27 => ?_) (fun hc27 => ?_)
    · have hw := hw.1 hc27
      refine r_iconst (v := (0 : Int32)) C (by decide) dX3_readDie_60 ?_
      exact r_sub C [3, 2, 1, 0] rfl (b_X3_readDie_61 C _ _ _ _ _ _ _ hw)
    · have hw := hw.2 hc27
      refine r_aload_n C rfl 3 rfl dX3_readDie_45 ?_
      refine r_gfR (k := 3) C kX3 (by decide) (Or.inl q2158) (Or.inl rfl) dX3_readDie_46 hw (fun v28 hw => ?_)
      refine r_iconst (v := (1 : Int32)) C (by decide) dX3_readDie_49 ?_
      obtain ⟨y29, rfl, hw_y29⟩ := hw
      have hw := hw_y29
      refine r_iaload C dX3_readDie_50 hw (fun v30 hw => ?_)
      refine r_bipush (v := (10 : Int32)) C (by decide) dX3_readDie_51 ?_
      have hJ : V h26 0 0 61 [(3, .int r22), (2, .int r13), (1, .int r10), (0, .ref a0)] [.int (bI (if (10 : Int32) ≤ v30 then false else true)), .ref a0] := by
        exact r_sub C [3, 2, 1, 0] rfl (b_X3_readDie_61 C _ _ _ _ _ _ _ hw)
      refine r_icmp_ge (tgt := 60) C (by decide) dX3_readDie_53 (fun hc31 => ?_) (fun hc31 => ?_)
      · have hJ32 := hJ
        try simp only [if_pos hc31] at hJ32
        refine r_iconst (v := (0 : Int32)) C (by decide) dX3_readDie_60 ?_
        exact r_sub C [0, 1, 2, 3] rfl hJ32
      · have hJ32 := hJ
        try simp only [if_neg hc31] at hJ32
        refine r_iconst (v := (1 : Int32)) C (by decide) dX3_readDie_56 (r_goto (tgt := 61) C (by decide) dX3_readDie_57 ?_)
        exact r_sub C [0, 1, 2, 3] rfl hJ32
  refine r_icmp_ne (tgt := 26) C (by decide) dX3_readDie_19 (fun hc33 => ?_) (fun hc33 => ?_)
  · have hJ34 := hJ
    try simp only [if_pos hc33] at hJ34
    refine r_iconst (v := (0 : Int32)) C (by decide) dX3_readDie_26 ?_
    exact r_sub C [0, 1, 2] rfl hJ34
  · have hJ34 := hJ
    try simp only [if_neg (show ¬ ¬ r16 = (45 : Int32) from fun z => z hc33)] at hJ34
    refine r_iconst (v := (1 : Int32)) C (by decide) dX3_readDie_22 (r_goto (tgt := 27) C (by decide) dX3_readDie_23 ?_)
    exact r_sub C [0, 1, 2] rfl hJ34
def w_X3_canReign (a0 : Nat) (i1 : Int32) (h : Hp) (Q : Bool → Hp → Prop) : Prop :=
  rdI h a0 (0 : Int32) (fun v1 => ((10 : Int32) ≤ v1 → Q false h) ∧ (¬ (10 : Int32) ≤ v1 → rdI h a0 (0 : Int32) (fun v3 => (v3 = 0 → Q true h) ∧ (¬ v3 = 0 → rdI h a0 (0 : Int32) (fun v5 => rdI h a0 (((5 : Int32) + v5) - (1 : Int32)) (fun v6 => Q (if i1 ≤ v6 then false else true) h))))))
theorem sg_X3_canReign : ySg yX3_canReign 2 = true := by decide +kernel
theorem c_X3_canReign (G : gT) (l : Launch) (a0 : Nat) (i1 : Int32) (h : Hp) (Q : Bool → Hp → Prop) (hw : w_X3_canReign a0 i1 h Q) : Ct G l yX3_canReign (ws_ yX3_canReign cX3_canReign 2 (some .boolean)) 1 12 0 0 [.ref a0, .int i1] h (pZ Q) := by
  refine Ct.of (own := RX3) false (by decide +kernel) rfl (show (_ : Nat) ≤ _ from Nat.le_of_ble_eq_true rfl) (fun z => by cases z) (fun V C => ?_)
  show V h 0 0 0 [(0, .ref a0), (1, .int i1)] []
  unfold w_X3_canReign at hw
  refine r_aload_n C rfl 0 rfl dX3_canReign_0 (r_iconst (v := (0 : Int32)) C (by decide) dX3_canReign_1 ?_)
  refine r_iaload C dX3_canReign_2 hw (fun v1 hw => ?_)
  refine r_bipush (v := (10 : Int32)) C (by decide) dX3_canReign_3 ?_
  refine r_icmp_ge (tgt := 31) C (by decide) dX3_canReign_5 (fun hc2 => ?_) (fun hc2 => ?_)
  · have hw := hw.1 hc2
    refine r_iconst (v := (0 : Int32)) C (by decide) dX3_canReign_31 ?_
    exact r_zreturn (x := false) C dX3_canReign_32 (Nat.le_refl _) (Nat.le_refl _) ⟨_, rfl, hw⟩
  · have hw := hw.2 hc2
    refine r_aload_n C rfl 0 rfl dX3_canReign_8 (r_iconst (v := (0 : Int32)) C (by decide) dX3_canReign_9 ?_)
    refine r_iaload C dX3_canReign_10 hw (fun v3 hw => ?_)
    refine r_if_eq (tgt := 27) C (by decide) dX3_canReign_11 (fun hc4 => ?_) (fun hc4 => ?_)
    · have hw := hw.1 hc4
      refine r_iconst (v := (1 : Int32)) C (by decide) dX3_canReign_27 (r_goto (tgt := 32) C (by decide) dX3_canReign_28 ?_)
      exact r_zreturn (x := true) C dX3_canReign_32 (Nat.le_refl _) (Nat.le_refl _) ⟨_, rfl, hw⟩
    · have hw := hw.2 hc4
      refine r_iload_n C rfl 1 rfl dX3_canReign_14 (r_aload_n C rfl 0 rfl dX3_canReign_15 (r_iconst (v := (5 : Int32)) C (by decide) dX3_canReign_16 (r_aload_n C rfl 0 rfl dX3_canReign_17 (r_iconst (v := (0 : Int32)) C (by decide) dX3_canReign_18 ?_))))
      refine r_iaload C dX3_canReign_19 hw (fun v5 hw => ?_)
      refine r_iadd C dX3_canReign_20 (r_iconst (v := (1 : Int32)) C (by decide) dX3_canReign_21 (r_isub C dX3_canReign_22 ?_))
      refine r_iaload C dX3_canReign_23 hw (fun v6 hw => ?_)
      have hJ : V h 0 0 32 [] [.int (bI (if i1 ≤ v6 then false else true))] := by
        exact r_zreturn (x := (if i1 ≤ v6 then false else true)) C dX3_canReign_32 (Nat.le_refl _) (Nat.le_refl _) ⟨_, rfl, hw⟩
      refine r_icmp_le (tgt := 31) C (by decide) dX3_canReign_24 (fun hc7 => ?_) (fun hc7 => ?_)
      · have hJ8 := hJ
        try simp only [if_pos hc7] at hJ8
        refine r_iconst (v := (0 : Int32)) C (by decide) dX3_canReign_31 ?_
        exact r_sub C [] rfl hJ8
      · have hJ8 := hJ
        try simp only [if_neg hc7] at hJ8
        refine r_iconst (v := (1 : Int32)) C (by decide) dX3_canReign_27 (r_goto (tgt := 32) C (by decide) dX3_canReign_28 ?_)
        exact r_sub C [] rfl hJ8
def w_X3_goReign (a0 : Nat) (i1 : Int32) (i2 : Int32) (h : Hp) (Q : Int32 → Hp → Prop) : Prop :=
  rdI h a0 (0 : Int32) (fun v1 => wrI h a0 ((5 : Int32) + v1) i1 (fun h2 => rdI h2 a0 (0 : Int32) (fun v3 => wrI h2 a0 ((15 : Int32) + v3) i2 (fun h4 => rdI h4 a0 (0 : Int32) (fun v5 => wrI h4 a0 (0 : Int32) (v5 + (1 : Int32)) (fun h6 => rdI h6 a0 (0 : Int32) (fun v7 => Q (v7 - (1 : Int32)) h6)))))))
theorem sg_X3_goReign : ySg yX3_goReign 3 = true := by decide +kernel
theorem c_X3_goReign (G : gT) (l : Launch) (a0 : Nat) (i1 : Int32) (i2 : Int32) (h : Hp) (Q : Int32 → Hp → Prop) (hw : w_X3_goReign a0 i1 i2 h Q) : Ct G l yX3_goReign (ws_ yX3_goReign cX3_goReign 3 (some .int)) 1 12 0 0 [.ref a0, .int i1, .int i2] h (pI Q) := by
  refine Ct.of (own := RX3) false (by decide +kernel) rfl (show (_ : Nat) ≤ _ from Nat.le_of_ble_eq_true rfl) (fun z => by cases z) (fun V C => ?_)
  show V h 0 0 0 [(0, .ref a0), (1, .int i1), (2, .int i2)] []
  unfold w_X3_goReign at hw
  refine r_aload_n C rfl 0 rfl dX3_goReign_0 (r_iconst (v := (5 : Int32)) C (by decide) dX3_goReign_1 (r_aload_n C rfl 0 rfl dX3_goReign_2 (r_iconst (v := (0 : Int32)) C (by decide) dX3_goReign_3 ?_)))
  refine r_iaload C dX3_goReign_4 hw (fun v1 hw => ?_)
  refine r_iadd C dX3_goReign_5 (r_iload_n C rfl 1 rfl dX3_goReign_6 ?_)
  refine r_iastore C dX3_goReign_7 hw (fun h2 hw => ?_)
  refine r_aload_n C rfl 0 rfl dX3_goReign_8 (r_bipush (v := (15 : Int32)) C (by decide) dX3_goReign_9 (r_aload_n C rfl 0 rfl dX3_goReign_11 (r_iconst (v := (0 : Int32)) C (by decide) dX3_goReign_12 ?_)))
  refine r_iaload C dX3_goReign_13 hw (fun v3 hw => ?_)
  refine r_iadd C dX3_goReign_14 (r_iload_n C rfl 2 rfl dX3_goReign_15 ?_)
  refine r_iastore C dX3_goReign_16 hw (fun h4 hw => ?_)
  refine r_aload_n C rfl 0 rfl dX3_goReign_17 (r_iconst (v := (0 : Int32)) C (by decide) dX3_goReign_18 (r_dup2_11 C rfl rfl dX3_goReign_19 ?_))
  refine r_iaload C dX3_goReign_20 hw (fun v5 hw => ?_)
  refine r_iconst (v := (1 : Int32)) C (by decide) dX3_goReign_21 (r_iadd C dX3_goReign_22 ?_)
  refine r_iastore C dX3_goReign_23 hw (fun h6 hw => ?_)
  refine r_aload_n C rfl 0 rfl dX3_goReign_24 (r_iconst (v := (0 : Int32)) C (by decide) dX3_goReign_25 ?_)
  refine r_iaload C dX3_goReign_26 hw (fun v7 hw => ?_)
  refine r_iconst (v := (1 : Int32)) C (by decide) dX3_goReign_27 (r_isub C dX3_goReign_28 ?_)
  exact r_ireturn C dX3_goReign_29 (Nat.le_refl _) (Nat.le_refl _) ⟨_, rfl, hw⟩
def w_X3_readReign (a0 : Nat) (h : Hp) (Q : Hp → Prop) : Prop :=
  hasC h a0 2 ∧ (w_X3_readYear a0 h (fun r2 h3 => hasC h3 a0 2 ∧ (w_X3_digit a0 (0 : Int32) (7 : Int32) h3 (fun r5 h6 => hasC h6 a0 2 ∧ (w_X3_ascending a0 (r5 + (1 : Int32)) (7 : Int32) h6 (fun r8 h9 => gfR h9 a0 2 3 (fun v10 => nn v10 (fun y11 => w_X3_canReign y11 r2 h9 (fun r12 h13 => hasC h13 a0 2 ∧ (w_X3_goes a0 r12 h13 (fun r15 h16 => (r15 = false → Q h16) ∧ (r15 = true → gfR h16 a0 2 3 (fun v18 => nn v18 (fun y19 => w_X3_goReign y19 r2 (((1 : Int32) <<< (r5 &&& 31)) ||| r8) h16 (fun r20 h21 => Q h21)))))))))))))))
theorem sg_X3_readReign : ySg yX3_readReign 0 = true := by decide +kernel
theorem c_X3_readReign (G : gT) (l : Launch) (a0 : Nat) (h : Hp) (Q : Hp → Prop) (hw : w_X3_readReign a0 h Q) : Ct G l yX3_readReign (ws_ yX3_readReign cX3_readReign 4 (none)) 4 85 0 0 [.ref a0] h (pV Q) := by
  refine Ct.of (own := RX3) false (by decide +kernel) rfl (show (_ : Nat) ≤ _ from Nat.le_of_ble_eq_true rfl) (fun z => by cases z) (fun V C => ?_)
  show V h 0 0 0 [(0, .ref a0)] []
  unfold w_X3_readReign at hw
  refine r_aload_n C rfl 0 rfl dX3_readReign_0 ?_
  obtain ⟨hq1, hw⟩ := hw
  refine r_callV (ci := 2) (rest := []) (As := []) C sg_X3_readYear rfl rfl q2254 q2256 qs44 q90 q2257 rfl (Nat.le_of_ble_eq_true rfl) dX3_readReign_1 rfl hq1 (Nat.le_refl _) (Nat.le_refl _) (c_X3_readYear G l a0 h _ hw) (k_I (fun r2 h3 hw => ?_))
  refine r_istore_n (L' := [(1, .int r2), (0, .ref a0)]) C rfl (by decide) rfl dX3_readReign_4 (r_aload_n C rfl 1 rfl dX3_readReign_5 (r_iconst (v := (0 : Int32)) C (by decide) dX3_readReign_6 (r_bipush (v := (7 : Int32)) C (by decide) dX3_readReign_7 ?_)))
  obtain ⟨hq4, hw⟩ := hw
  refine r_callV (ci := 2) (rest := []) (As := [.int (0 : Int32), .int (7 : Int32)]) C sg_X3_digit rfl rfl q2258 q2260 qs45 q90 q2261 rfl (Nat.le_of_ble_eq_true rfl) dX3_readReign_9 rfl hq4 (Nat.le_refl _) (Nat.le_refl _) (c_X3_digit G l a0 (0 : Int32) (7 : Int32) h3 _ hw) (k_I (fun r5 h6 hw => ?_))
  refine r_istore_n (L' := [(2, .int r5), (1, .int r2), (0, .ref a0)]) C rfl (by decide) rfl dX3_readReign_12 (r_iconst (v := (1 : Int32)) C (by decide) dX3_readReign_13 (r_iload_n C rfl 0 rfl dX3_readReign_14 (r_ishl C dX3_readReign_15 (r_aload_n C rfl 2 rfl dX3_readReign_16 (r_iload_n C rfl 0 rfl dX3_readReign_17 ?_)))))
  refine r_iconst (v := (1 : Int32)) C (by decide) dX3_readReign_18 (r_iadd C dX3_readReign_19 (r_bipush (v := (7 : Int32)) C (by decide) dX3_readReign_20 ?_))
  obtain ⟨hq7, hw⟩ := hw
  refine r_callV (ci := 2) (rest := [.int ((1 : Int32) <<< (r5 &&& 31))]) (As := [.int (r5 + (1 : Int32)), .int (7 : Int32)]) C sg_X3_ascending rfl rfl q2262 q2264 qs46 q90 q2265 rfl (Nat.le_of_ble_eq_true rfl) dX3_readReign_22 rfl hq7 (Nat.le_refl _) (Nat.le_refl _) (c_X3_ascending G l a0 (r5 + (1 : Int32)) (7 : Int32) h6 _ hw) (k_I (fun r8 h9 hw => ?_))
  refine r_ior C dX3_readReign_25 (r_istore_n (L' := [(3, .int (((1 : Int32) <<< (r5 &&& 31)) ||| r8)), (2, .int r5), (1, .int r2), (0, .ref a0)]) C rfl (by decide) rfl dX3_readReign_26 (r_aload_n C rfl 3 rfl dX3_readReign_27 (r_aload_n C rfl 3 rfl dX3_readReign_28 ?_)))
  refine r_gfR (k := 3) C kX3 (by decide) (Or.inl q2158) (Or.inl rfl) dX3_readReign_29 hw (fun v10 hw => ?_)
  refine r_iload_n C rfl 2 rfl dX3_readReign_32 ?_
  obtain ⟨y11, rfl, hw_y11⟩ := hw
  have hw := hw_y11
  refine r_callS (rest := [.ref a0]) (As := [.ref y11, .int r2]) C sg_X3_canReign q2266 q2267 q90 q2268 rfl (Nat.le_of_ble_eq_true rfl) dX3_readReign_33 rfl (Nat.le_refl _) (Nat.le_refl _) (c_X3_canReign G l y11 r2 h9 _ hw) (k_Z (fun r12 h13 hw => ?_))
  obtain ⟨hq14, hw⟩ := hw
  refine r_callV (ci := 2) (rest := []) (As := [.int (bI r12)]) C sg_X3_goes rfl rfl q2269 q2271 qs47 q90 q2272 rfl (Nat.le_of_ble_eq_true rfl) dX3_readReign_36 rfl hq14 (Nat.le_refl _) (Nat.le_refl _) (c_X3_goes G l a0 r12 h13 _ hw) (k_Z (fun r15 h16 hw => ?_))
  refine r_if_eq_b (tgt := 52) C (by decide) dX3_readReign_39 (fun hc17 => ?_) (fun hc17 => ?_)
  · have hw := hw.1 hc17
    exact r_return C dX3_readReign_52 (Nat.le_refl _) (Nat.le_refl _) ⟨rfl, hw⟩
  · have hw := hw.2 hc17
    refine r_aload_n C rfl 3 rfl dX3_readReign_42 ?_
    refine r_gfR (k := 3) C kX3 (by decide) (Or.inl q2158) (Or.inl rfl) dX3_readReign_43 hw (fun v18 hw => ?_)
    refine r_iload_n C rfl 2 rfl dX3_readReign_46 (r_iload_n C rfl 0 rfl dX3_readReign_47 ?_)
    obtain ⟨y19, rfl, hw_y19⟩ := hw
    have hw := hw_y19
    refine r_callS (rest := []) (As := [.ref y19, .int r2, .int (((1 : Int32) <<< (r5 &&& 31)) ||| r8)]) C sg_X3_goReign q2273 q2274 q90 q2275 rfl (Nat.le_of_ble_eq_true rfl) dX3_readReign_48 rfl (Nat.le_refl _) (Nat.le_refl _) (c_X3_goReign G l y19 r2 (((1 : Int32) <<< (r5 &&& 31)) ||| r8) h16 _ hw) (k_I (fun r20 h21 hw => ?_))
    refine r_pop C rfl dX3_readReign_51 ?_
    exact r_return C dX3_readReign_52 (Nat.le_refl _) (Nat.le_refl _) ⟨rfl, hw⟩
def w_X3_readEntry (a0 : Nat) (h : Hp) (Q : Hp → Prop) : Prop :=
  hasC h a0 2 ∧ (w_X3_here a0 h (fun r2 h3 => hasC h3 a0 2 ∧ (w_X3_eat a0 (if r2 = (114 : Int32) then true else (if r2 = (100 : Int32) then true else (if r2 = (107 : Int32) then true else (if r2 = (119 : Int32) then true else (if r2 = (98 : Int32) then true else (if ¬ r2 = (104 : Int32) then false else true)))))) h3 (fun h6 => gfZ h6 a0 2 11 (fun v7 => (v7 = false → Q h6) ∧ (v7 = true → (r2 = (100 : Int32) → hasC h6 a0 2 ∧ (w_X3_readDie a0 h6 (fun h11 => Q h11))) ∧ (r2 = (104 : Int32) → hasC h6 a0 2 ∧ (w_X3_readHang a0 h6 (fun h14 => Q h14))) ∧ (r2 = (107 : Int32) → hasC h6 a0 2 ∧ (w_X3_readCrack a0 h6 (fun h17 => Q h17))) ∧ (r2 = (114 : Int32) → hasC h6 a0 2 ∧ (w_X3_readReign a0 h6 (fun h20 => Q h20))) ∧ (¬ r2 = (100 : Int32) ∧ ¬ r2 = (104 : Int32) ∧ ¬ r2 = (107 : Int32) ∧ ¬ r2 = (114 : Int32) → hasC h6 a0 2 ∧ (w_X3_readSeal a0 (bI (if ¬ r2 = (119 : Int32) then true else false)) h6 (fun h23 => Q h23)))))))))
theorem sg_X3_readEntry : ySg yX3_readEntry 0 = true := by decide +kernel
theorem c_X3_readEntry (G : gT) (l : Launch) (a0 : Nat) (h : Hp) (Q : Hp → Prop) (hw : w_X3_readEntry a0 h Q) : Ct G l yX3_readEntry (ws_ yX3_readEntry cX3_readEntry 2 (none)) 5 111 0 0 [.ref a0] h (pV Q) := by
  refine Ct.of (own := RX3) false (by decide +kernel) rfl (show (_ : Nat) ≤ _ from Nat.le_of_ble_eq_true rfl) (fun z => by cases z) (fun V C => ?_)
  show V h 0 0 0 [(0, .ref a0)] []
  unfold w_X3_readEntry at hw
  refine r_aload_n C rfl 0 rfl dX3_readEntry_0 ?_
  obtain ⟨hq1, hw⟩ := hw
  refine r_callV (ci := 2) (rest := []) (As := []) C sg_X3_here rfl rfl q2242 q2244 qs41 q90 q2245 rfl (Nat.le_of_ble_eq_true rfl) dX3_readEntry_1 rfl hq1 (Nat.le_refl _) (Nat.le_refl _) (c_X3_here G l a0 h _ hw) (k_I (fun r2 h3 hw => ?_))
  refine r_istore_n (L' := [(1, .int r2), (0, .ref a0)]) C rfl (by decide) rfl dX3_readEntry_4 (r_aload_n C rfl 1 rfl dX3_readEntry_5 (r_iload_n C rfl 0 rfl dX3_readEntry_6 (r_bipush (v := (114 : Int32)) C (by decide) dX3_readEntry_7 ?_)))
  have hJ : V h3 0 0 47 [(1, .int r2), (0, .ref a0)] [.int (bI (if r2 = (114 : Int32) then true else (if r2 = (100 : Int32) then true else (if r2 = (107 : Int32) then true else (if r2 = (119 : Int32) then true else (if r2 = (98 : Int32) then true else (if ¬ r2 = (104 : Int32) then false else true))))))), .ref a0] := by
    obtain ⟨hq4, hw⟩ := hw
    refine r_callV (ci := 2) (rest := []) (As := [.int (bI (if r2 = (114 : Int32) then true else (if r2 = (100 : Int32) then true else (if r2 = (107 : Int32) then true else (if r2 = (119 : Int32) then true else (if r2 = (98 : Int32) then true else (if ¬ r2 = (104 : Int32) then false else true)))))))]) C sg_X3_eat rfl rfl q2246 q2248 qs42 q90 q2249 rfl (Nat.le_of_ble_eq_true rfl) dX3_readEntry_47 rfl hq4 (Nat.le_refl _) (Nat.le_refl _) (c_X3_eat G l a0 (if r2 = (114 : Int32) then true else (if r2 = (100 : Int32) then true else (if r2 = (107 : Int32) then true else (if r2 = (119 : Int32) then true else (if r2 = (98 : Int32) then true else (if ¬ r2 = (104 : Int32) then false else true)))))) h3 _ hw) (k_V (fun h6 hw => ?_))
    refine r_aload_n C rfl 1 rfl dX3_readEntry_50 ?_
    refine r_gfZ (k := 11) C kX3 (by decide) (Or.inl q2166) (Or.inl rfl) dX3_readEntry_51 hw (fun v7 hw => ?_)
    refine r_if_eq_b (tgt := 143) C (by decide) dX3_readEntry_54 (fun hc8 => ?_) (fun hc8 => ?_)
    · have hw := hw.1 hc8
      exact r_return C dX3_readEntry_143 (Nat.le_refl _) (Nat.le_refl _) ⟨rfl, hw⟩
    · have hw := hw.2 hc8
      refine r_iload_n C rfl 0 rfl dX3_readEntry_57 ?_
      by_cases he0 : r2 = (100 : Int32)
      · have hw := hw.1 he0
        refine r_lookup (off := 49) (tgt := 107) C (by decide) (by rw [he0]; decide) (by decide) dX3_readEntry_58 ?_
        refine r_aload_n C rfl 1 rfl dX3_readEntry_107 ?_
        obtain ⟨hq9, hw⟩ := hw
        refine r_callV (ci := 2) (rest := []) (As := []) C sg_X3_readDie rfl rfl q2276 q2278 qs48 q90 q2279 rfl (Nat.le_of_ble_eq_true rfl) dX3_readEntry_108 rfl hq9 (Nat.le_refl _) (Nat.le_refl _) (c_X3_readDie G l a0 h6 _ hw) (k_V (fun h11 hw => ?_))
        refine r_goto (tgt := 143) C (by decide) dX3_readEntry_111 ?_
        exact r_return C dX3_readEntry_143 (Nat.le_refl _) (Nat.le_refl _) ⟨rfl, hw⟩
      · by_cases he1 : r2 = (104 : Int32)
        · have hw := hw.2.1 he1
          refine r_lookup (off := 63) (tgt := 121) C (by decide) (by rw [he1]; decide) (by decide) dX3_readEntry_58 ?_
          refine r_aload_n C rfl 1 rfl dX3_readEntry_121 ?_
          obtain ⟨hq12, hw⟩ := hw
          refine r_callV (ci := 2) (rest := []) (As := []) C sg_X3_readHang rfl rfl q2300 q2302 qs51 q90 q2303 rfl (Nat.le_of_ble_eq_true rfl) dX3_readEntry_122 rfl hq12 (Nat.le_refl _) (Nat.le_refl _) (c_X3_readHang G l a0 h6 _ hw) (k_V (fun h14 hw => ?_))
          refine r_goto (tgt := 143) C (by decide) dX3_readEntry_125 ?_
          exact r_return C dX3_readEntry_143 (Nat.le_refl _) (Nat.le_refl _) ⟨rfl, hw⟩
        · by_cases he2 : r2 = (107 : Int32)
          · have hw := hw.2.2.1 he2
            refine r_lookup (off := 56) (tgt := 114) C (by decide) (by rw [he2]; decide) (by decide) dX3_readEntry_58 ?_
            refine r_aload_n C rfl 1 rfl dX3_readEntry_114 ?_
            obtain ⟨hq15, hw⟩ := hw
            refine r_callV (ci := 2) (rest := []) (As := []) C sg_X3_readCrack rfl rfl q2287 q2289 qs50 q90 q2290 rfl (Nat.le_of_ble_eq_true rfl) dX3_readEntry_115 rfl hq15 (Nat.le_refl _) (Nat.le_refl _) (c_X3_readCrack G l a0 h6 _ hw) (k_V (fun h17 hw => ?_))
            refine r_goto (tgt := 143) C (by decide) dX3_readEntry_118 ?_
            exact r_return C dX3_readEntry_143 (Nat.le_refl _) (Nat.le_refl _) ⟨rfl, hw⟩
          · by_cases he3 : r2 = (114 : Int32)
            · have hw := hw.2.2.2.1 he3
              refine r_lookup (off := 42) (tgt := 100) C (by decide) (by rw [he3]; decide) (by decide) dX3_readEntry_58 ?_
              refine r_aload_n C rfl 1 rfl dX3_readEntry_100 ?_
              obtain ⟨hq18, hw⟩ := hw
              refine r_callV (ci := 2) (rest := []) (As := []) C sg_X3_readReign rfl rfl q2250 q2252 qs43 q90 q2253 rfl (Nat.le_of_ble_eq_true rfl) dX3_readEntry_101 rfl hq18 (Nat.le_refl _) (Nat.le_refl _) (c_X3_readReign G l a0 h6 _ hw) (k_V (fun h20 hw => ?_))
              refine r_goto (tgt := 143) C (by decide) dX3_readEntry_104 ?_
              exact r_return C dX3_readEntry_143 (Nat.le_refl _) (Nat.le_refl _) ⟨rfl, hw⟩
            · have hw := hw.2.2.2.2 ⟨he0, he1, he2, he3⟩
              refine r_lookup (off := 70) (tgt := 128) C (by decide) (by rw [lv_osw he0 (by decide), lv_osw he1 (by decide), lv_osw he2 (by decide), lv_osw he3 (by decide)]; rfl) (by decide) dX3_readEntry_58 ?_
              refine r_aload_n C rfl 1 rfl dX3_readEntry_128 (r_iload_n C rfl 0 rfl dX3_readEntry_129 (r_bipush (v := (119 : Int32)) C (by decide) dX3_readEntry_130 ?_))
              have hJ : V h6 0 0 140 [] [.int (bI (if ¬ r2 = (119 : Int32) then true else false)), .ref a0] := by
                obtain ⟨hq21, hw⟩ := hw
                refine r_callV (ci := 2) (rest := []) (As := [.int (bI (if ¬ r2 = (119 : Int32) then true else false))]) C sg_X3_readSeal rfl rfl q2313 q2315 qs52 q90 q2316 rfl (Nat.le_of_ble_eq_true rfl) dX3_readEntry_140 rfl hq21 (Nat.le_refl _) (Nat.le_refl _) (c_X3_readSeal G l a0 (bI (if ¬ r2 = (119 : Int32) then true else false)) h6 _ hw) (k_V (fun h23 hw => ?_))
                exact r_return C dX3_readEntry_143 (Nat.le_refl _) (Nat.le_refl _) ⟨rfl, hw⟩
              refine r_icmp_ne (tgt := 139) C (by decide) dX3_readEntry_132 (fun hc24 => ?_) (fun hc24 => ?_)
              · have hJ25 := hJ
                try simp only [if_pos hc24] at hJ25
                refine r_iconst (v := (1 : Int32)) C (by decide) dX3_readEntry_139 ?_
                exact r_sub C [] rfl hJ25
              · have hJ25 := hJ
                try simp only [if_neg (show ¬ ¬ r2 = (119 : Int32) from fun z => z hc24)] at hJ25
                refine r_iconst (v := (0 : Int32)) C (by decide) dX3_readEntry_135 (r_goto (tgt := 140) C (by decide) dX3_readEntry_136 ?_)
                exact r_sub C [] rfl hJ25
  refine r_icmp_eq (tgt := 42) C (by decide) dX3_readEntry_9 (fun hc26 => ?_) (fun hc26 => ?_)
  · have hJ27 := hJ
    try simp only [if_pos hc26] at hJ27
    refine r_iconst (v := (1 : Int32)) C (by decide) dX3_readEntry_42 (r_goto (tgt := 47) C (by decide) dX3_readEntry_43 ?_)
    exact r_sub C [0, 1] rfl hJ27
  · have hJ27 := hJ
    try simp only [if_neg hc26] at hJ27
    refine r_iload_n C rfl 0 rfl dX3_readEntry_12 (r_bipush (v := (100 : Int32)) C (by decide) dX3_readEntry_13 ?_)
    refine r_icmp_eq (tgt := 42) C (by decide) dX3_readEntry_15 (fun hc28 => ?_) (fun hc28 => ?_)
    · have hJ29 := hJ27
      try simp only [if_pos hc28] at hJ29
      refine r_iconst (v := (1 : Int32)) C (by decide) dX3_readEntry_42 (r_goto (tgt := 47) C (by decide) dX3_readEntry_43 ?_)
      exact r_sub C [0, 1] rfl hJ29
    · have hJ29 := hJ27
      try simp only [if_neg hc28] at hJ29
      refine r_iload_n C rfl 0 rfl dX3_readEntry_18 (r_bipush (v := (107 : Int32)) C (by decide) dX3_readEntry_19 ?_)
      refine r_icmp_eq (tgt := 42) C (by decide) dX3_readEntry_21 (fun hc30 => ?_) (fun hc30 => ?_)
      · have hJ31 := hJ29
        try simp only [if_pos hc30] at hJ31
        refine r_iconst (v := (1 : Int32)) C (by decide) dX3_readEntry_42 (r_goto (tgt := 47) C (by decide) dX3_readEntry_43 ?_)
        exact r_sub C [0, 1] rfl hJ31
      · have hJ31 := hJ29
        try simp only [if_neg hc30] at hJ31
        refine r_iload_n C rfl 0 rfl dX3_readEntry_24 (r_bipush (v := (119 : Int32)) C (by decide) dX3_readEntry_25 ?_)
        refine r_icmp_eq (tgt := 42) C (by decide) dX3_readEntry_27 (fun hc32 => ?_) (fun hc32 => ?_)
        · have hJ33 := hJ31
          try simp only [if_pos hc32] at hJ33
          refine r_iconst (v := (1 : Int32)) C (by decide) dX3_readEntry_42 (r_goto (tgt := 47) C (by decide) dX3_readEntry_43 ?_)
          exact r_sub C [0, 1] rfl hJ33
        · have hJ33 := hJ31
          try simp only [if_neg hc32] at hJ33
          refine r_iload_n C rfl 0 rfl dX3_readEntry_30 (r_bipush (v := (98 : Int32)) C (by decide) dX3_readEntry_31 ?_)
          refine r_icmp_eq (tgt := 42) C (by decide) dX3_readEntry_33 (fun hc34 => ?_) (fun hc34 => ?_)
          · have hJ35 := hJ33
            try simp only [if_pos hc34] at hJ35
            refine r_iconst (v := (1 : Int32)) C (by decide) dX3_readEntry_42 (r_goto (tgt := 47) C (by decide) dX3_readEntry_43 ?_)
            exact r_sub C [0, 1] rfl hJ35
          · have hJ35 := hJ33
            try simp only [if_neg hc34] at hJ35
            refine r_iload_n C rfl 0 rfl dX3_readEntry_36 (r_bipush (v := (104 : Int32)) C (by decide) dX3_readEntry_37 ?_)
            refine r_icmp_ne (tgt := 46) C (by decide) dX3_readEntry_39 (fun hc36 => ?_) (fun hc36 => ?_)
            · have hJ37 := hJ35
              try simp only [if_pos hc36] at hJ37
              refine r_iconst (v := (0 : Int32)) C (by decide) dX3_readEntry_46 ?_
              exact r_sub C [0, 1] rfl hJ37
            · have hJ37 := hJ35
              try simp only [if_neg (show ¬ ¬ r2 = (104 : Int32) from fun z => z hc36)] at hJ37
              refine r_iconst (v := (1 : Int32)) C (by decide) dX3_readEntry_42 (r_goto (tgt := 47) C (by decide) dX3_readEntry_43 ?_)
              exact r_sub C [0, 1] rfl hJ37
def B_X3_readAll_69 (Q : Int32 → Hp → Prop) (h : Hp) (x0 : Nat) : Prop :=
  gfZ h x0 2 11 (fun v17 => (v17 = false → gfI h x0 2 10 (fun v19 => Q v19 h)) ∧ (v17 = true → Q (-1 : Int32) h))
def S_X3_readAll_26 (Q : Int32 → Hp → Prop) (LA26 : Hp → Nat → Prop) (h : Hp) (x0 : Nat) : Prop :=
  gfZ h x0 2 11 (fun v1 => (v1 = false → B_X3_readAll_69 Q h x0) ∧ (v1 = true → gfI h x0 2 10 (fun v3 => gfI h x0 2 9 (fun v4 => (v4 ≤ v3 → B_X3_readAll_69 Q h x0) ∧ (¬ v4 ≤ v3 → hasC h x0 2 ∧ (w_X3_here x0 h (fun r7 h8 => hasC h8 x0 2 ∧ (w_X3_eat x0 (if ¬ r7 = (59 : Int32) then false else true) h8 (fun h11 => hasC h11 x0 2 ∧ (w_X3_readEntry x0 h11 (fun h14 => LA26 h14 x0)))))))))))
def B_X3_readAll_26 (Q : Int32 → Hp → Prop) : Nat → Hp → Nat → Prop
  | 0, _, _ => False
  | k + 1, h, x0 => S_X3_readAll_26 Q (B_X3_readAll_26 Q k) h x0
def w_X3_readAll (a0 : Nat) (h : Hp) (Q : Int32 → Hp → Prop) : Prop :=
  pf h a0 2 10 (.int (0 : Int32)) (fun h20 => pf h20 a0 2 11 (.int (bI true)) (fun h21 => pf h21 a0 2 12 (.int (0 : Int32)) (fun h22 => gfR h22 a0 2 3 (fun v23 => nn v23 (fun y24 => w_X3_fresh y24 h22 (fun h26 => hasC h26 a0 2 ∧ (w_X3_readEntry a0 h26 (fun h29 => ∃ k9 : Nat, B_X3_readAll_26 Q k9 h29 a0))))))))
theorem b_X3_readAll_69 {G : gT} {l : Launch} {V : Hp → Nat → Nat → Nat → List (Nat × Value) → List Value → Prop} {Q : Int32 → Hp → Prop} (C : Cx G l V cX3_readAll 1 RX3 6 132 0 0 (pI Q) none (some .int) [] false) (h : Hp) (x0 : Nat) (hw : B_X3_readAll_69 Q h x0) : V h 0 0 69 [(0, .ref x0)] [] := by
  unfold B_X3_readAll_69 at hw
  refine r_aload_n C rfl 0 rfl dX3_readAll_69 ?_
  refine r_gfZ (k := 11) C kX3 (by decide) (Or.inl q2166) (Or.inl rfl) dX3_readAll_70 hw (fun v17 hw => ?_)
  refine r_if_eq_b (tgt := 80) C (by decide) dX3_readAll_73 (fun hc18 => ?_) (fun hc18 => ?_)
  · have hw := hw.1 hc18
    refine r_aload_n C rfl 0 rfl dX3_readAll_80 ?_
    refine r_gfI (k := 10) C kX3 (by decide) (Or.inl q2165) (Or.inl rfl) dX3_readAll_81 hw (fun v19 hw => ?_)
    exact r_ireturn C dX3_readAll_84 (Nat.le_refl _) (Nat.le_refl _) ⟨_, rfl, hw⟩
  · have hw := hw.2 hc18
    refine r_iconst (v := (-1 : Int32)) C (by decide) dX3_readAll_76 (r_goto (tgt := 84) C (by decide) dX3_readAll_77 ?_)
    exact r_ireturn C dX3_readAll_84 (Nat.le_refl _) (Nat.le_refl _) ⟨_, rfl, hw⟩
theorem s_X3_readAll_26 {G : gT} {l : Launch} {V : Hp → Nat → Nat → Nat → List (Nat × Value) → List Value → Prop} {Q : Int32 → Hp → Prop} (C : Cx G l V cX3_readAll 1 RX3 6 132 0 0 (pI Q) none (some .int) [] false) (LA26 : Hp → Nat → Prop) (hLA26 : ∀ (h : Hp) (x0 : Nat), LA26 h x0 → V h 0 0 26 [(0, .ref x0)] []) (h : Hp) (x0 : Nat) (hw : S_X3_readAll_26 Q LA26 h x0) : V h 0 0 26 [(0, .ref x0)] [] := by
  unfold S_X3_readAll_26 at hw
  refine r_aload_n C rfl 0 rfl dX3_readAll_26 ?_
  refine r_gfZ (k := 11) C kX3 (by decide) (Or.inl q2166) (Or.inl rfl) dX3_readAll_27 hw (fun v1 hw => ?_)
  refine r_if_eq_b (tgt := 69) C (by decide) dX3_readAll_30 (fun hc2 => ?_) (fun hc2 => ?_)
  · have hw := hw.1 hc2
    exact r_sub C [0] rfl (b_X3_readAll_69 C _ _ hw)
  · have hw := hw.2 hc2
    refine r_aload_n C rfl 0 rfl dX3_readAll_33 ?_
    refine r_gfI (k := 10) C kX3 (by decide) (Or.inl q2165) (Or.inl rfl) dX3_readAll_34 hw (fun v3 hw => ?_)
    refine r_aload_n C rfl 0 rfl dX3_readAll_37 ?_
    refine r_gfI (k := 9) C kX3 (by decide) (Or.inl q2164) (Or.inl rfl) dX3_readAll_38 hw (fun v4 hw => ?_)
    refine r_icmp_ge (tgt := 69) C (by decide) dX3_readAll_41 (fun hc5 => ?_) (fun hc5 => ?_)
    · have hw := hw.1 hc5
      exact r_sub C [0] rfl (b_X3_readAll_69 C _ _ hw)
    · have hw := hw.2 hc5
      refine r_aload_n C rfl 0 rfl dX3_readAll_44 (r_aload_n C rfl 0 rfl dX3_readAll_45 ?_)
      obtain ⟨hq6, hw⟩ := hw
      refine r_callV (ci := 2) (rest := [.ref x0]) (As := []) C sg_X3_here rfl rfl q2242 q2244 qs41 q90 q2245 rfl (Nat.le_of_ble_eq_true rfl) dX3_readAll_46 rfl hq6 (Nat.le_refl _) (Nat.le_refl _) (c_X3_here G l x0 h _ hw) (k_I (fun r7 h8 hw => ?_))
      refine r_bipush (v := (59 : Int32)) C (by decide) dX3_readAll_49 ?_
      have hJ : V h8 0 0 59 [(0, .ref x0)] [.int (bI (if ¬ r7 = (59 : Int32) then false else true)), .ref x0] := by
        obtain ⟨hq9, hw⟩ := hw
        refine r_callV (ci := 2) (rest := []) (As := [.int (bI (if ¬ r7 = (59 : Int32) then false else true))]) C sg_X3_eat rfl rfl q2246 q2248 qs42 q90 q2249 rfl (Nat.le_of_ble_eq_true rfl) dX3_readAll_59 rfl hq9 (Nat.le_refl _) (Nat.le_refl _) (c_X3_eat G l x0 (if ¬ r7 = (59 : Int32) then false else true) h8 _ hw) (k_V (fun h11 hw => ?_))
        refine r_aload_n C rfl 0 rfl dX3_readAll_62 ?_
        obtain ⟨hq12, hw⟩ := hw
        refine r_callV (ci := 2) (rest := []) (As := []) C sg_X3_readEntry rfl rfl q2238 q2240 qs40 q90 q2241 rfl (Nat.le_of_ble_eq_true rfl) dX3_readAll_63 rfl hq12 (Nat.le_refl _) (Nat.le_refl _) (c_X3_readEntry G l x0 h11 _ hw) (k_V (fun h14 hw => ?_))
        refine r_goto (tgt := 26) C (by decide) dX3_readAll_66 ?_
        exact r_sub C [0] rfl (hLA26 _ _ hw)
      refine r_icmp_ne (tgt := 58) C (by decide) dX3_readAll_51 (fun hc15 => ?_) (fun hc15 => ?_)
      · have hJ16 := hJ
        try simp only [if_pos hc15] at hJ16
        refine r_iconst (v := (0 : Int32)) C (by decide) dX3_readAll_58 ?_
        exact r_sub C [0] rfl hJ16
      · have hJ16 := hJ
        try simp only [if_neg (show ¬ ¬ r7 = (59 : Int32) from fun z => z hc15)] at hJ16
        refine r_iconst (v := (1 : Int32)) C (by decide) dX3_readAll_54 (r_goto (tgt := 59) C (by decide) dX3_readAll_55 ?_)
        exact r_sub C [0] rfl hJ16
theorem b_X3_readAll_26 {G : gT} {l : Launch} {V : Hp → Nat → Nat → Nat → List (Nat × Value) → List Value → Prop} {Q : Int32 → Hp → Prop} (C : Cx G l V cX3_readAll 1 RX3 6 132 0 0 (pI Q) none (some .int) [] false) : ∀ (k : Nat) (h : Hp) (x0 : Nat), B_X3_readAll_26 Q k h x0 → V h 0 0 26 [(0, .ref x0)] [] := by
  intro k
  induction k with
  | zero =>
    intro h x0 hw
    exact hw.elim
  | succ k ih =>
    intro h x0 hw
    exact s_X3_readAll_26 C _ (fun h x0 hw => ih h x0 hw) h x0 hw
theorem sg_X3_readAll : ySg yX3_readAll 0 = true := by decide +kernel
theorem c_X3_readAll (G : gT) (l : Launch) (a0 : Nat) (h : Hp) (Q : Int32 → Hp → Prop) (hw : w_X3_readAll a0 h Q) : Ct G l yX3_readAll (ws_ yX3_readAll cX3_readAll 1 (some .int)) 6 132 0 0 [.ref a0] h (pI Q) := by
  refine Ct.of (own := RX3) false (by decide +kernel) rfl (show (_ : Nat) ≤ _ from Nat.le_of_ble_eq_true rfl) (fun z => by cases z) (fun V C => ?_)
  show V h 0 0 0 [(0, .ref a0)] []
  unfold w_X3_readAll at hw
  refine r_aload_n C rfl 0 rfl dX3_readAll_0 (r_iconst (v := (0 : Int32)) C (by decide) dX3_readAll_1 ?_)
  refine r_pf (k := 10) (v := .int (0 : Int32)) C kX3 (by decide) (Or.inl q2165) (Or.inl rfl) (Or.inl rfl) rfl rfl dX3_readAll_2 hw (fun h20 hw => ?_)
  refine r_aload_n C rfl 0 rfl dX3_readAll_5 (r_iconst (v := (1 : Int32)) C (by decide) dX3_readAll_6 ?_)
  refine r_pf (k := 11) (v := .int (bI true)) C kX3 (by decide) (Or.inl q2166) (Or.inl rfl) (Or.inl rfl) (n_bI _) (f_bI _) dX3_readAll_7 hw (fun h21 hw => ?_)
  refine r_aload_n C rfl 0 rfl dX3_readAll_10 (r_iconst (v := (0 : Int32)) C (by decide) dX3_readAll_11 ?_)
  refine r_pf (k := 12) (v := .int (0 : Int32)) C kX3 (by decide) (Or.inl q2167) (Or.inl rfl) (Or.inl rfl) rfl rfl dX3_readAll_12 hw (fun h22 hw => ?_)
  refine r_aload_n C rfl 0 rfl dX3_readAll_15 ?_
  refine r_gfR (k := 3) C kX3 (by decide) (Or.inl q2158) (Or.inl rfl) dX3_readAll_16 hw (fun v23 hw => ?_)
  obtain ⟨y24, rfl, hw_y24⟩ := hw
  have hw := hw_y24
  refine r_callS (rest := []) (As := [.ref y24]) C sg_X3_fresh q2152 q2153 q90 q2154 rfl (Nat.le_of_ble_eq_true rfl) dX3_readAll_19 rfl (Nat.le_refl _) (Nat.le_refl _) (c_X3_fresh G l y24 h22 _ hw) (k_V (fun h26 hw => ?_))
  refine r_aload_n C rfl 0 rfl dX3_readAll_22 ?_
  obtain ⟨hq27, hw⟩ := hw
  refine r_callV (ci := 2) (rest := []) (As := []) C sg_X3_readEntry rfl rfl q2238 q2240 qs40 q90 q2241 rfl (Nat.le_of_ble_eq_true rfl) dX3_readAll_23 rfl hq27 (Nat.le_refl _) (Nat.le_refl _) (c_X3_readEntry G l a0 h26 _ hw) (k_V (fun h29 hw => ?_))
  obtain ⟨k9, hw⟩ := hw
  exact r_sub C [0] rfl (b_X3_readAll_26 C _ _ _ hw)
def w_X3_errorPosition (a0 : Nat) (h : Hp) (Q : Int32 → Hp → Prop) : Prop :=
  pf h a0 2 0 (.int (0 : Int32)) (fun h1 => hasC h1 a0 2 ∧ (w_X3_readAll a0 h1 (fun r3 h4 => Q r3 h4)))
theorem sg_X3_errorPosition : ySg yX3_errorPosition 0 = true := by decide +kernel
theorem c_X3_errorPosition (G : gT) (l : Launch) (a0 : Nat) (h : Hp) (Q : Int32 → Hp → Prop) (hw : w_X3_errorPosition a0 h Q) : Ct G l yX3_errorPosition (ws_ yX3_errorPosition cX3_errorPosition 1 (some .int)) 7 152 0 0 [.ref a0] h (pI Q) := by
  refine Ct.of (own := RX3) false (by decide +kernel) rfl (show (_ : Nat) ≤ _ from Nat.le_of_ble_eq_true rfl) (fun z => by cases z) (fun V C => ?_)
  show V h 0 0 0 [(0, .ref a0)] []
  unfold w_X3_errorPosition at hw
  refine r_aload_n C rfl 0 rfl dX3_errorPosition_0 (r_iconst (v := (0 : Int32)) C (by decide) dX3_errorPosition_1 ?_)
  refine r_pf (k := 0) (v := .int (0 : Int32)) C kX3 (by decide) (Or.inl q2155) (Or.inl rfl) (Or.inl rfl) rfl rfl dX3_errorPosition_2 hw (fun h1 hw => ?_)
  refine r_aload_n C rfl 0 rfl dX3_errorPosition_5 ?_
  obtain ⟨hq2, hw⟩ := hw
  refine r_callV (ci := 2) (rest := []) (As := []) C sg_X3_readAll rfl rfl q2234 q2236 qs39 q90 q2237 rfl (Nat.le_of_ble_eq_true rfl) dX3_errorPosition_6 rfl hq2 (Nat.le_refl _) (Nat.le_refl _) (c_X3_readAll G l a0 h1 _ hw) (k_I (fun r3 h4 hw => ?_))
  exact r_ireturn C dX3_errorPosition_9 (Nat.le_refl _) (Nat.le_refl _) ⟨_, rfl, hw⟩
def S_X3_copy_2 (Q : Hp → Prop) (LA2 : Hp → Nat → Nat → Int32 → Prop) (h : Hp) (x0 : Nat) (x1 : Nat) (x2 : Int32) : Prop :=
  ((291 : Int32) ≤ x2 → Q h) ∧ (¬ (291 : Int32) ≤ x2 → rdI h x0 x2 (fun v2 => wrI h x1 x2 v2 (fun h3 => LA2 h3 x0 x1 (x2 + (1 : Int32)))))
def B_X3_copy_2 (Q : Hp → Prop) : Nat → Hp → Nat → Nat → Int32 → Prop
  | 0, _, _, _, _ => False
  | k + 1, h, x0, x1, x2 => S_X3_copy_2 Q (B_X3_copy_2 Q k) h x0 x1 x2
def w_X3_copy (a0 : Nat) (a1 : Nat) (h : Hp) (Q : Hp → Prop) : Prop :=
  ∃ k9 : Nat, B_X3_copy_2 Q k9 h a0 a1 (0 : Int32)
theorem s_X3_copy_2 {G : gT} {l : Launch} {V : Hp → Nat → Nat → Nat → List (Nat × Value) → List Value → Prop} {Q : Hp → Prop} (C : Cx G l V cX3_copy 3 RX3 1 12 0 0 (pV Q) none (none) [] false) (LA2 : Hp → Nat → Nat → Int32 → Prop) (hLA2 : ∀ (h : Hp) (x0 : Nat) (x1 : Nat) (x2 : Int32), LA2 h x0 x1 x2 → V h 0 0 2 [(0, .ref x0), (1, .ref x1), (2, .int x2)] []) (h : Hp) (x0 : Nat) (x1 : Nat) (x2 : Int32) (hw : S_X3_copy_2 Q LA2 h x0 x1 x2) : V h 0 0 2 [(0, .ref x0), (1, .ref x1), (2, .int x2)] [] := by
  unfold S_X3_copy_2 at hw
  refine r_iload_n C rfl 2 rfl dX3_copy_2 (r_sipush (v := (291 : Int32)) C (by decide) dX3_copy_3 ?_)
  refine r_icmp_ge (tgt := 21) C (by decide) dX3_copy_6 (fun hc1 => ?_) (fun hc1 => ?_)
  · have hw := hw.1 hc1
    exact r_return C dX3_copy_21 (Nat.le_refl _) (Nat.le_refl _) ⟨rfl, hw⟩
  · have hw := hw.2 hc1
    refine r_aload_n C rfl 1 rfl dX3_copy_9 (r_iload_n C rfl 2 rfl dX3_copy_10 (r_aload_n C rfl 0 rfl dX3_copy_11 (r_iload_n C rfl 2 rfl dX3_copy_12 ?_)))
    refine r_iaload C dX3_copy_13 hw (fun v2 hw => ?_)
    refine r_iastore C dX3_copy_14 hw (fun h3 hw => ?_)
    refine r_iinc (v := x2 + (1 : Int32)) (L' := [(2, .int (x2 + (1 : Int32))), (0, .ref x0), (1, .ref x1)]) C (u := 2) rfl (by rfl) (by decide) rfl dX3_copy_15 (r_goto (tgt := 2) C (by decide) dX3_copy_18 ?_)
    exact r_sub C [1, 2, 0] rfl (hLA2 _ _ _ _ hw)
theorem b_X3_copy_2 {G : gT} {l : Launch} {V : Hp → Nat → Nat → Nat → List (Nat × Value) → List Value → Prop} {Q : Hp → Prop} (C : Cx G l V cX3_copy 3 RX3 1 12 0 0 (pV Q) none (none) [] false) : ∀ (k : Nat) (h : Hp) (x0 : Nat) (x1 : Nat) (x2 : Int32), B_X3_copy_2 Q k h x0 x1 x2 → V h 0 0 2 [(0, .ref x0), (1, .ref x1), (2, .int x2)] [] := by
  intro k
  induction k with
  | zero =>
    intro h x0 x1 x2 hw
    exact hw.elim
  | succ k ih =>
    intro h x0 x1 x2 hw
    exact s_X3_copy_2 C _ (fun h x0 x1 x2 hw => ih h x0 x1 x2 hw) h x0 x1 x2 hw
theorem sg_X3_copy : ySg yX3_copy 2 = true := by decide +kernel
theorem c_X3_copy (G : gT) (l : Launch) (a0 : Nat) (a1 : Nat) (h : Hp) (Q : Hp → Prop) (hw : w_X3_copy a0 a1 h Q) : Ct G l yX3_copy (ws_ yX3_copy cX3_copy 3 (none)) 1 12 0 0 [.ref a0, .ref a1] h (pV Q) := by
  refine Ct.of (own := RX3) false (by decide +kernel) rfl (show (_ : Nat) ≤ _ from Nat.le_of_ble_eq_true rfl) (fun z => by cases z) (fun V C => ?_)
  show V h 0 0 0 [(0, .ref a0), (1, .ref a1)] []
  unfold w_X3_copy at hw
  refine r_iconst (v := (0 : Int32)) C (by decide) dX3_copy_0 (r_istore_n (L' := [(2, .int (0 : Int32)), (0, .ref a0), (1, .ref a1)]) C rfl (by decide) rfl dX3_copy_1 ?_)
  obtain ⟨k9, hw⟩ := hw
  exact r_sub C [1, 2, 0] rfl (b_X3_copy_2 C _ _ _ _ _ hw)
def w_X3_load (a0 : Nat) (h : Hp) (Q : Int32 → Hp → Prop) : Prop :=
  hasC h a0 2 ∧ (w_X3_readAll a0 h (fun r2 h3 => hasC h3 a0 2 ∧ (w_X3_refused a0 (bI (if ¬ r2 = (-1 : Int32) then true else false)) h3 (fun r5 h6 => (r5 = false → gfR h6 a0 2 3 (fun v8 => gfR h6 a0 2 1 (fun v9 => nn v8 (fun y10 => nn v9 (fun y11 => w_X3_copy y10 y11 h6 (fun h13 => pf h13 a0 2 5 (.int (0 : Int32)) (fun h14 => gfR h14 a0 2 7 (fun v15 => nn v15 (fun y17 => wrZ h14 y17 (0 : Int32) false (fun h16 => gfR h16 a0 2 7 (fun v18 => nn v18 (fun y20 => wrZ h16 y20 (1 : Int32) false (fun h19 => gfI h19 a0 2 12 (fun v21 => Q v21 h19)))))))))))))) ∧ (r5 = true → Q (0 : Int32) h6)))))
theorem sg_X3_load : ySg yX3_load 0 = true := by decide +kernel
theorem c_X3_load (G : gT) (l : Launch) (a0 : Nat) (h : Hp) (Q : Int32 → Hp → Prop) (hw : w_X3_load a0 h Q) : Ct G l yX3_load (ws_ yX3_load cX3_load 1 (some .int)) 7 152 0 0 [.ref a0] h (pI Q) := by
  refine Ct.of (own := RX3) false (by decide +kernel) rfl (show (_ : Nat) ≤ _ from Nat.le_of_ble_eq_true rfl) (fun z => by cases z) (fun V C => ?_)
  show V h 0 0 0 [(0, .ref a0)] []
  unfold w_X3_load at hw
  refine r_aload_n C rfl 0 rfl dX3_load_0 (r_aload_n C rfl 0 rfl dX3_load_1 ?_)
  obtain ⟨hq1, hw⟩ := hw
  refine r_callV (ci := 2) (rest := [.ref a0]) (As := []) C sg_X3_readAll rfl rfl q2234 q2236 qs39 q90 q2237 rfl (Nat.le_of_ble_eq_true rfl) dX3_load_2 rfl hq1 (Nat.le_refl _) (Nat.le_refl _) (c_X3_readAll G l a0 h _ hw) (k_I (fun r2 h3 hw => ?_))
  refine r_iconst (v := (-1 : Int32)) C (by decide) dX3_load_5 ?_
  have hJ : V h3 0 0 14 [(0, .ref a0)] [.int (bI (if ¬ r2 = (-1 : Int32) then true else false)), .ref a0] := by
    obtain ⟨hq4, hw⟩ := hw
    refine r_callV (ci := 2) (rest := []) (As := [.int (bI (if ¬ r2 = (-1 : Int32) then true else false))]) C sg_X3_refused rfl rfl q2222 q2224 qs38 q90 q2225 rfl (Nat.le_of_ble_eq_true rfl) dX3_load_14 rfl hq4 (Nat.le_refl _) (Nat.le_refl _) (c_X3_refused G l a0 (bI (if ¬ r2 = (-1 : Int32) then true else false)) h3 _ hw) (k_Z (fun r5 h6 hw => ?_))
    refine r_if_eq_b (tgt := 22) C (by decide) dX3_load_17 (fun hc7 => ?_) (fun hc7 => ?_)
    · have hw := hw.1 hc7
      refine r_aload_n C rfl 0 rfl dX3_load_22 ?_
      refine r_gfR (k := 3) C kX3 (by decide) (Or.inl q2158) (Or.inl rfl) dX3_load_23 hw (fun v8 hw => ?_)
      refine r_aload_n C rfl 0 rfl dX3_load_26 ?_
      refine r_gfR (k := 1) C kX3 (by decide) (Or.inl q2156) (Or.inl rfl) dX3_load_27 hw (fun v9 hw => ?_)
      obtain ⟨y10, rfl, hw_y10⟩ := hw
      have hw := hw_y10
      obtain ⟨y11, rfl, hw_y11⟩ := hw
      have hw := hw_y11
      refine r_callS (rest := []) (As := [.ref y10, .ref y11]) C sg_X3_copy q2327 q2328 q90 q2329 rfl (Nat.le_of_ble_eq_true rfl) dX3_load_30 rfl (Nat.le_refl _) (Nat.le_refl _) (c_X3_copy G l y10 y11 h6 _ hw) (k_V (fun h13 hw => ?_))
      refine r_aload_n C rfl 0 rfl dX3_load_33 (r_iconst (v := (0 : Int32)) C (by decide) dX3_load_34 ?_)
      refine r_pf (k := 5) (v := .int (0 : Int32)) C kX3 (by decide) (Or.inl q2160) (Or.inl rfl) (Or.inl rfl) rfl rfl dX3_load_35 hw (fun h14 hw => ?_)
      refine r_aload_n C rfl 0 rfl dX3_load_38 ?_
      refine r_gfR (k := 7) C kX3 (by decide) (Or.inl q2162) (Or.inl rfl) dX3_load_39 hw (fun v15 hw => ?_)
      refine r_iconst (v := (0 : Int32)) C (by decide) dX3_load_42 (r_iconst (v := (0 : Int32)) C (by decide) dX3_load_43 ?_)
      obtain ⟨y17, rfl, hw_y17⟩ := hw
      have hw := hw_y17
      refine r_bastore (x := false) C dX3_load_44 hw (fun h16 hw => ?_)
      refine r_aload_n C rfl 0 rfl dX3_load_45 ?_
      refine r_gfR (k := 7) C kX3 (by decide) (Or.inl q2162) (Or.inl rfl) dX3_load_46 hw (fun v18 hw => ?_)
      refine r_iconst (v := (1 : Int32)) C (by decide) dX3_load_49 (r_iconst (v := (0 : Int32)) C (by decide) dX3_load_50 ?_)
      obtain ⟨y20, rfl, hw_y20⟩ := hw
      have hw := hw_y20
      refine r_bastore (x := false) C dX3_load_51 hw (fun h19 hw => ?_)
      refine r_aload_n C rfl 0 rfl dX3_load_52 ?_
      refine r_gfI (k := 12) C kX3 (by decide) (Or.inl q2167) (Or.inl rfl) dX3_load_53 hw (fun v21 hw => ?_)
      exact r_ireturn C dX3_load_56 (Nat.le_refl _) (Nat.le_refl _) ⟨_, rfl, hw⟩
    · have hw := hw.2 hc7
      refine r_iconst (v := (0 : Int32)) C (by decide) dX3_load_20 ?_
      exact r_ireturn C dX3_load_21 (Nat.le_refl _) (Nat.le_refl _) ⟨_, rfl, hw⟩
  refine r_icmp_ne (tgt := 13) C (by decide) dX3_load_6 (fun hc22 => ?_) (fun hc22 => ?_)
  · have hJ23 := hJ
    try simp only [if_pos hc22] at hJ23
    refine r_iconst (v := (1 : Int32)) C (by decide) dX3_load_13 ?_
    exact r_sub C [0] rfl hJ23
  · have hJ23 := hJ
    try simp only [if_neg (show ¬ ¬ r2 = (-1 : Int32) from fun z => z hc22)] at hJ23
    refine r_iconst (v := (0 : Int32)) C (by decide) dX3_load_9 (r_goto (tgt := 14) C (by decide) dX3_load_10 ?_)
    exact r_sub C [0] rfl hJ23
def w_X3_isCast (a0 : Nat) (i1 : Int32) (h : Hp) (Q : Bool → Hp → Prop) : Prop :=
  rdI h a0 ((177 : Int32) + i1) (fun v1 => rdI h a0 ((129 : Int32) + i1) (fun v2 => rdI h a0 ((3 : Int32) + v2) (fun v3 => Q (if v1 ≤ v3 then false else true) h)))
theorem sg_X3_isCast : ySg yX3_isCast 2 = true := by decide +kernel
theorem c_X3_isCast (G : gT) (l : Launch) (a0 : Nat) (i1 : Int32) (h : Hp) (Q : Bool → Hp → Prop) (hw : w_X3_isCast a0 i1 h Q) : Ct G l yX3_isCast (ws_ yX3_isCast cX3_isCast 2 (some .boolean)) 1 12 0 0 [.ref a0, .int i1] h (pZ Q) := by
  refine Ct.of (own := RX3) false (by decide +kernel) rfl (show (_ : Nat) ≤ _ from Nat.le_of_ble_eq_true rfl) (fun z => by cases z) (fun V C => ?_)
  show V h 0 0 0 [(0, .ref a0), (1, .int i1)] []
  unfold w_X3_isCast at hw
  refine r_aload_n C rfl 0 rfl dX3_isCast_0 (r_sipush (v := (177 : Int32)) C (by decide) dX3_isCast_1 (r_iload_n C rfl 1 rfl dX3_isCast_4 (r_iadd C dX3_isCast_5 ?_)))
  refine r_iaload C dX3_isCast_6 hw (fun v1 hw => ?_)
  refine r_aload_n C rfl 0 rfl dX3_isCast_7 (r_iconst (v := (3 : Int32)) C (by decide) dX3_isCast_8 (r_aload_n C rfl 0 rfl dX3_isCast_9 (r_sipush (v := (129 : Int32)) C (by decide) dX3_isCast_10 (r_iload_n C rfl 1 rfl dX3_isCast_13 (r_iadd C dX3_isCast_14 ?_)))))
  refine r_iaload C dX3_isCast_15 hw (fun v2 hw => ?_)
  refine r_iadd C dX3_isCast_16 ?_
  refine r_iaload C dX3_isCast_17 hw (fun v3 hw => ?_)
  have hJ : V h 0 0 26 [] [.int (bI (if v1 ≤ v3 then false else true))] := by
    exact r_zreturn (x := (if v1 ≤ v3 then false else true)) C dX3_isCast_26 (Nat.le_refl _) (Nat.le_refl _) ⟨_, rfl, hw⟩
  refine r_icmp_le (tgt := 25) C (by decide) dX3_isCast_18 (fun hc4 => ?_) (fun hc4 => ?_)
  · have hJ5 := hJ
    try simp only [if_pos hc4] at hJ5
    refine r_iconst (v := (0 : Int32)) C (by decide) dX3_isCast_25 ?_
    exact r_sub C [] rfl hJ5
  · have hJ5 := hJ
    try simp only [if_neg hc4] at hJ5
    refine r_iconst (v := (1 : Int32)) C (by decide) dX3_isCast_21 (r_goto (tgt := 26) C (by decide) dX3_isCast_22 ?_)
    exact r_sub C [] rfl hJ5
def S_X3_placeOn_5 (Q : Int32 → Hp → Prop) (LA5 : Hp → Nat → Int32 → Int32 → Int32 → Int32 → Prop) (h : Hp) (x0 : Nat) (x1 : Int32) (x2 : Int32) (x3 : Int32) (x4 : Int32) : Prop :=
  rdI h x0 ((249 : Int32) + x2) (fun v1 => (v1 ≤ x4 → Q x3 h) ∧ (¬ v1 ≤ x4 → rdI h x0 (((255 : Int32) + ((6 : Int32) * x2)) + x4) (fun v3 => LA5 h x0 x1 x2 (if ¬ v3 = x1 then x3 else x4) (x4 + (1 : Int32)))))
def B_X3_placeOn_5 (Q : Int32 → Hp → Prop) : Nat → Hp → Nat → Int32 → Int32 → Int32 → Int32 → Prop
  | 0, _, _, _, _, _, _ => False
  | k + 1, h, x0, x1, x2, x3, x4 => S_X3_placeOn_5 Q (B_X3_placeOn_5 Q k) h x0 x1 x2 x3 x4
def w_X3_placeOn (a0 : Nat) (i1 : Int32) (i2 : Int32) (h : Hp) (Q : Int32 → Hp → Prop) : Prop :=
  ∃ k9 : Nat, B_X3_placeOn_5 Q k9 h a0 i1 i2 (-1 : Int32) (0 : Int32)
theorem s_X3_placeOn_5 {G : gT} {l : Launch} {V : Hp → Nat → Nat → Nat → List (Nat × Value) → List Value → Prop} {Q : Int32 → Hp → Prop} (C : Cx G l V cX3_placeOn 5 RX3 1 12 0 0 (pI Q) none (some .int) [] false) (LA5 : Hp → Nat → Int32 → Int32 → Int32 → Int32 → Prop) (hLA5 : ∀ (h : Hp) (x0 : Nat) (x1 : Int32) (x2 : Int32) (x3 : Int32) (x4 : Int32), LA5 h x0 x1 x2 x3 x4 → V h 0 0 5 [(0, .ref x0), (1, .int x1), (2, .int x2), (3, .int x3), (4, .int x4)] []) (h : Hp) (x0 : Nat) (x1 : Int32) (x2 : Int32) (x3 : Int32) (x4 : Int32) (hw : S_X3_placeOn_5 Q LA5 h x0 x1 x2 x3 x4) : V h 0 0 5 [(0, .ref x0), (1, .int x1), (2, .int x2), (3, .int x3), (4, .int x4)] [] := by
  unfold S_X3_placeOn_5 at hw
  refine r_iload C 4 rfl dX3_placeOn_5 (r_aload_n C rfl 0 rfl dX3_placeOn_7 (r_sipush (v := (249 : Int32)) C (by decide) dX3_placeOn_8 (r_iload_n C rfl 2 rfl dX3_placeOn_11 (r_iadd C dX3_placeOn_12 ?_))))
  refine r_iaload C dX3_placeOn_13 hw (fun v1 hw => ?_)
  refine r_icmp_ge (tgt := 47) C (by decide) dX3_placeOn_14 (fun hc2 => ?_) (fun hc2 => ?_)
  · have hw := hw.1 hc2
    refine r_iload_n C rfl 3 rfl dX3_placeOn_47 ?_
    exact r_ireturn C dX3_placeOn_48 (Nat.le_refl _) (Nat.le_refl _) ⟨_, rfl, hw⟩
  · have hw := hw.2 hc2
    refine r_aload_n C rfl 0 rfl dX3_placeOn_17 (r_sipush (v := (255 : Int32)) C (by decide) dX3_placeOn_18 (r_bipush (v := (6 : Int32)) C (by decide) dX3_placeOn_21 (r_iload_n C rfl 2 rfl dX3_placeOn_23 (r_imul C dX3_placeOn_24 (r_iadd C dX3_placeOn_25 ?_)))))
    refine r_iload C 4 rfl dX3_placeOn_26 (r_iadd C dX3_placeOn_28 ?_)
    refine r_iaload C dX3_placeOn_29 hw (fun v3 hw => ?_)
    refine r_iload_n C rfl 1 rfl dX3_placeOn_30 ?_
    have hJ : V h 0 0 40 [(0, .ref x0), (1, .int x1), (2, .int x2), (4, .int x4)] [.int (if ¬ v3 = x1 then x3 else x4)] := by
      refine r_istore_n (L' := [(3, .int (if ¬ v3 = x1 then x3 else x4)), (0, .ref x0), (1, .int x1), (2, .int x2), (4, .int x4)]) C rfl (by decide) rfl dX3_placeOn_40 (r_iinc (v := x4 + (1 : Int32)) (L' := [(4, .int (x4 + (1 : Int32))), (3, .int (if ¬ v3 = x1 then x3 else x4)), (0, .ref x0), (1, .int x1), (2, .int x2)]) C (u := 4) rfl (by rfl) (by decide) rfl dX3_placeOn_41 (r_goto (tgt := 5) C (by decide) dX3_placeOn_44 ?_))
      exact r_sub C [2, 3, 4, 1, 0] rfl (hLA5 _ _ _ _ _ _ hw)
    refine r_icmp_ne (tgt := 39) C (by decide) dX3_placeOn_31 (fun hc4 => ?_) (fun hc4 => ?_)
    · have hJ5 := hJ
      try simp only [if_pos hc4] at hJ5
      refine r_iload_n C rfl 3 rfl dX3_placeOn_39 ?_
      exact r_sub C [0, 1, 2, 4] rfl hJ5
    · have hJ5 := hJ
      try simp only [if_neg (show ¬ ¬ v3 = x1 from fun z => z hc4)] at hJ5
      refine r_iload C 4 rfl dX3_placeOn_34 (r_goto (tgt := 40) C (by decide) dX3_placeOn_36 ?_)
      exact r_sub C [0, 1, 2, 4] rfl hJ5
theorem b_X3_placeOn_5 {G : gT} {l : Launch} {V : Hp → Nat → Nat → Nat → List (Nat × Value) → List Value → Prop} {Q : Int32 → Hp → Prop} (C : Cx G l V cX3_placeOn 5 RX3 1 12 0 0 (pI Q) none (some .int) [] false) : ∀ (k : Nat) (h : Hp) (x0 : Nat) (x1 : Int32) (x2 : Int32) (x3 : Int32) (x4 : Int32), B_X3_placeOn_5 Q k h x0 x1 x2 x3 x4 → V h 0 0 5 [(0, .ref x0), (1, .int x1), (2, .int x2), (3, .int x3), (4, .int x4)] [] := by
  intro k
  induction k with
  | zero =>
    intro h x0 x1 x2 x3 x4 hw
    exact hw.elim
  | succ k ih =>
    intro h x0 x1 x2 x3 x4 hw
    exact s_X3_placeOn_5 C _ (fun h x0 x1 x2 x3 x4 hw => ih h x0 x1 x2 x3 x4 hw) h x0 x1 x2 x3 x4 hw
theorem sg_X3_placeOn : ySg yX3_placeOn 3 = true := by decide +kernel
theorem c_X3_placeOn (G : gT) (l : Launch) (a0 : Nat) (i1 : Int32) (i2 : Int32) (h : Hp) (Q : Int32 → Hp → Prop) (hw : w_X3_placeOn a0 i1 i2 h Q) : Ct G l yX3_placeOn (ws_ yX3_placeOn cX3_placeOn 5 (some .int)) 1 12 0 0 [.ref a0, .int i1, .int i2] h (pI Q) := by
  refine Ct.of (own := RX3) false (by decide +kernel) rfl (show (_ : Nat) ≤ _ from Nat.le_of_ble_eq_true rfl) (fun z => by cases z) (fun V C => ?_)
  show V h 0 0 0 [(0, .ref a0), (1, .int i1), (2, .int i2)] []
  unfold w_X3_placeOn at hw
  refine r_iconst (v := (-1 : Int32)) C (by decide) dX3_placeOn_0 (r_istore_n (L' := [(3, .int (-1 : Int32)), (0, .ref a0), (1, .int i1), (2, .int i2)]) C rfl (by decide) rfl dX3_placeOn_1 (r_iconst (v := (0 : Int32)) C (by decide) dX3_placeOn_2 (r_istore (L' := [(4, .int (0 : Int32)), (3, .int (-1 : Int32)), (0, .ref a0), (1, .int i1), (2, .int i2)]) C (by decide) rfl dX3_placeOn_3 ?_)))
  obtain ⟨k9, hw⟩ := hw
  exact r_sub C [2, 3, 4, 1, 0] rfl (b_X3_placeOn_5 C _ _ _ _ _ _ _ hw)
def S_X3_shelfOf_4 (Q : Int32 → Hp → Prop) (LA4 : Hp → Nat → Int32 → Int32 → Int32 → Prop) (h : Hp) (x0 : Nat) (x1 : Int32) (x2 : Int32) (x3 : Int32) : Prop :=
  ((6 : Int32) ≤ x3 → Q x2 h) ∧ (¬ (6 : Int32) ≤ x3 → w_X3_placeOn x0 x1 x3 h (fun r2 h3 => LA4 h3 x0 x1 (if ¬ r2 = (-1 : Int32) then x3 else x2) (x3 + (1 : Int32))))
def B_X3_shelfOf_4 (Q : Int32 → Hp → Prop) : Nat → Hp → Nat → Int32 → Int32 → Int32 → Prop
  | 0, _, _, _, _, _ => False
  | k + 1, h, x0, x1, x2, x3 => S_X3_shelfOf_4 Q (B_X3_shelfOf_4 Q k) h x0 x1 x2 x3
def w_X3_shelfOf (a0 : Nat) (i1 : Int32) (h : Hp) (Q : Int32 → Hp → Prop) : Prop :=
  ∃ k9 : Nat, B_X3_shelfOf_4 Q k9 h a0 i1 (-1 : Int32) (0 : Int32)
theorem s_X3_shelfOf_4 {G : gT} {l : Launch} {V : Hp → Nat → Nat → Nat → List (Nat × Value) → List Value → Prop} {Q : Int32 → Hp → Prop} (C : Cx G l V cX3_shelfOf 4 RX3 2 36 0 0 (pI Q) none (some .int) [] false) (LA4 : Hp → Nat → Int32 → Int32 → Int32 → Prop) (hLA4 : ∀ (h : Hp) (x0 : Nat) (x1 : Int32) (x2 : Int32) (x3 : Int32), LA4 h x0 x1 x2 x3 → V h 0 0 4 [(0, .ref x0), (1, .int x1), (2, .int x2), (3, .int x3)] []) (h : Hp) (x0 : Nat) (x1 : Int32) (x2 : Int32) (x3 : Int32) (hw : S_X3_shelfOf_4 Q LA4 h x0 x1 x2 x3) : V h 0 0 4 [(0, .ref x0), (1, .int x1), (2, .int x2), (3, .int x3)] [] := by
  unfold S_X3_shelfOf_4 at hw
  refine r_iload_n C rfl 3 rfl dX3_shelfOf_4 (r_bipush (v := (6 : Int32)) C (by decide) dX3_shelfOf_5 ?_)
  refine r_icmp_ge (tgt := 32) C (by decide) dX3_shelfOf_7 (fun hc1 => ?_) (fun hc1 => ?_)
  · have hw := hw.1 hc1
    refine r_iload_n C rfl 2 rfl dX3_shelfOf_32 ?_
    exact r_ireturn C dX3_shelfOf_33 (Nat.le_refl _) (Nat.le_refl _) ⟨_, rfl, hw⟩
  · have hw := hw.2 hc1
    refine r_aload_n C rfl 0 rfl dX3_shelfOf_10 (r_iload_n C rfl 1 rfl dX3_shelfOf_11 (r_iload_n C rfl 3 rfl dX3_shelfOf_12 ?_))
    refine r_callS (rest := []) (As := [.ref x0, .int x1, .int x3]) C sg_X3_placeOn q2401 q2402 q90 q2403 rfl (Nat.le_of_ble_eq_true rfl) dX3_shelfOf_13 rfl (Nat.le_refl _) (Nat.le_refl _) (c_X3_placeOn G l x0 x1 x3 h _ hw) (k_I (fun r2 h3 hw => ?_))
    refine r_iconst (v := (-1 : Int32)) C (by decide) dX3_shelfOf_16 ?_
    have hJ : V h3 0 0 25 [(0, .ref x0), (1, .int x1), (3, .int x3)] [.int (if ¬ r2 = (-1 : Int32) then x3 else x2)] := by
      refine r_istore_n (L' := [(2, .int (if ¬ r2 = (-1 : Int32) then x3 else x2)), (0, .ref x0), (1, .int x1), (3, .int x3)]) C rfl (by decide) rfl dX3_shelfOf_25 (r_iinc (v := x3 + (1 : Int32)) (L' := [(3, .int (x3 + (1 : Int32))), (2, .int (if ¬ r2 = (-1 : Int32) then x3 else x2)), (0, .ref x0), (1, .int x1)]) C (u := 3) rfl (by rfl) (by decide) rfl dX3_shelfOf_26 (r_goto (tgt := 4) C (by decide) dX3_shelfOf_29 ?_))
      exact r_sub C [2, 3, 1, 0] rfl (hLA4 _ _ _ _ _ hw)
    refine r_icmp_ne (tgt := 24) C (by decide) dX3_shelfOf_17 (fun hc4 => ?_) (fun hc4 => ?_)
    · have hJ5 := hJ
      try simp only [if_pos hc4] at hJ5
      refine r_iload_n C rfl 3 rfl dX3_shelfOf_24 ?_
      exact r_sub C [0, 1, 3] rfl hJ5
    · have hJ5 := hJ
      try simp only [if_neg (show ¬ ¬ r2 = (-1 : Int32) from fun z => z hc4)] at hJ5
      refine r_iload_n C rfl 2 rfl dX3_shelfOf_20 (r_goto (tgt := 25) C (by decide) dX3_shelfOf_21 ?_)
      exact r_sub C [0, 1, 3] rfl hJ5
theorem b_X3_shelfOf_4 {G : gT} {l : Launch} {V : Hp → Nat → Nat → Nat → List (Nat × Value) → List Value → Prop} {Q : Int32 → Hp → Prop} (C : Cx G l V cX3_shelfOf 4 RX3 2 36 0 0 (pI Q) none (some .int) [] false) : ∀ (k : Nat) (h : Hp) (x0 : Nat) (x1 : Int32) (x2 : Int32) (x3 : Int32), B_X3_shelfOf_4 Q k h x0 x1 x2 x3 → V h 0 0 4 [(0, .ref x0), (1, .int x1), (2, .int x2), (3, .int x3)] [] := by
  intro k
  induction k with
  | zero =>
    intro h x0 x1 x2 x3 hw
    exact hw.elim
  | succ k ih =>
    intro h x0 x1 x2 x3 hw
    exact s_X3_shelfOf_4 C _ (fun h x0 x1 x2 x3 hw => ih h x0 x1 x2 x3 hw) h x0 x1 x2 x3 hw
theorem sg_X3_shelfOf : ySg yX3_shelfOf 2 = true := by decide +kernel
theorem c_X3_shelfOf (G : gT) (l : Launch) (a0 : Nat) (i1 : Int32) (h : Hp) (Q : Int32 → Hp → Prop) (hw : w_X3_shelfOf a0 i1 h Q) : Ct G l yX3_shelfOf (ws_ yX3_shelfOf cX3_shelfOf 4 (some .int)) 2 36 0 0 [.ref a0, .int i1] h (pI Q) := by
  refine Ct.of (own := RX3) false (by decide +kernel) rfl (show (_ : Nat) ≤ _ from Nat.le_of_ble_eq_true rfl) (fun z => by cases z) (fun V C => ?_)
  show V h 0 0 0 [(0, .ref a0), (1, .int i1)] []
  unfold w_X3_shelfOf at hw
  refine r_iconst (v := (-1 : Int32)) C (by decide) dX3_shelfOf_0 (r_istore_n (L' := [(2, .int (-1 : Int32)), (0, .ref a0), (1, .int i1)]) C rfl (by decide) rfl dX3_shelfOf_1 (r_iconst (v := (0 : Int32)) C (by decide) dX3_shelfOf_2 (r_istore_n (L' := [(3, .int (0 : Int32)), (2, .int (-1 : Int32)), (0, .ref a0), (1, .int i1)]) C rfl (by decide) rfl dX3_shelfOf_3 ?_)))
  obtain ⟨k9, hw⟩ := hw
  exact r_sub C [2, 3, 1, 0] rfl (b_X3_shelfOf_4 C _ _ _ _ _ _ hw)
def B_X3_countOf_74 (Q : Int32 → Hp → Prop) (LA4 : Hp → Nat → Int32 → Int32 → Int32 → Prop) (h : Hp) (x0 : Nat) (x1 : Int32) (x2 : Int32) (x3 : Int32) (s0 : Bool) : Prop :=
  LA4 h x0 x1 (x2 + (bI (if s0 = false then false else true))) (x3 + (1 : Int32))
def S_X3_countOf_4 (Q : Int32 → Hp → Prop) (LA4 : Hp → Nat → Int32 → Int32 → Int32 → Prop) (h : Hp) (x0 : Nat) (x1 : Int32) (x2 : Int32) (x3 : Int32) : Prop :=
  gfR h x0 2 1 (fun v1 => nn v1 (fun y2 => rdI h y2 (2 : Int32) (fun v3 => (v3 ≤ x3 → Q x2 h) ∧ (¬ v3 ≤ x3 → (¬ x1 = (4 : Int32) → (¬ x1 = (5 : Int32) → gfR h x0 2 1 (fun v7 => nn v7 (fun y8 => w_X3_shelfOf y8 x3 h (fun r9 h10 => B_X3_countOf_74 Q LA4 h10 x0 x1 x2 x3 (if r9 = (-1 : Int32) then false else true))))) ∧ (x1 = (5 : Int32) → gfR h x0 2 1 (fun v13 => nn v13 (fun y14 => rdI h y14 ((225 : Int32) + x3) (fun v15 => B_X3_countOf_74 Q LA4 h x0 x1 x2 x3 (if v15 = (-1 : Int32) then false else true)))))) ∧ (x1 = (4 : Int32) → gfR h x0 2 1 (fun v18 => nn v18 (fun y19 => w_X3_isCast y19 x3 h (fun r20 h21 => B_X3_countOf_74 Q LA4 h21 x0 x1 x2 x3 r20))))))))
def B_X3_countOf_4 (Q : Int32 → Hp → Prop) : Nat → Hp → Nat → Int32 → Int32 → Int32 → Prop
  | 0, _, _, _, _, _ => False
  | k + 1, h, x0, x1, x2, x3 => S_X3_countOf_4 Q (B_X3_countOf_4 Q k) h x0 x1 x2 x3
def w_X3_countOf (a0 : Nat) (i1 : Int32) (h : Hp) (Q : Int32 → Hp → Prop) : Prop :=
  ∃ k9 : Nat, B_X3_countOf_4 Q k9 h a0 i1 (0 : Int32) (0 : Int32)
theorem b_X3_countOf_74 {G : gT} {l : Launch} {V : Hp → Nat → Nat → Nat → List (Nat × Value) → List Value → Prop} {Q : Int32 → Hp → Prop} (C : Cx G l V cX3_countOf 5 RX3 3 59 0 0 (pI Q) none (some .int) [] false) (LA4 : Hp → Nat → Int32 → Int32 → Int32 → Prop) (hLA4 : ∀ (h : Hp) (x0 : Nat) (x1 : Int32) (x2 : Int32) (x3 : Int32), LA4 h x0 x1 x2 x3 → V h 0 0 4 [(0, .ref x0), (1, .int x1), (2, .int x2), (3, .int x3)] []) (h : Hp) (x0 : Nat) (x1 : Int32) (x2 : Int32) (x3 : Int32) (s0 : Bool) (hw : B_X3_countOf_74 Q LA4 h x0 x1 x2 x3 s0) : V h 0 0 74 [(0, .ref x0), (1, .int x1), (2, .int x2), (3, .int x3)] [.int (bI s0)] := by
  unfold B_X3_countOf_74 at hw
  refine r_istore (L' := [(4, .int (bI s0)), (0, .ref x0), (1, .int x1), (2, .int x2), (3, .int x3)]) C (by decide) rfl dX3_countOf_74 (r_iload_n C rfl 3 rfl dX3_countOf_76 (r_iload C 0 rfl dX3_countOf_77 ?_))
  have hJ : V h 0 0 87 [(0, .ref x0), (1, .int x1), (3, .int x3)] [.int (bI (if s0 = false then false else true)), .int x2] := by
    refine r_iadd C dX3_countOf_87 (r_istore_n (L' := [(2, .int (x2 + (bI (if s0 = false then false else true)))), (0, .ref x0), (1, .int x1), (3, .int x3)]) C rfl (by decide) rfl dX3_countOf_88 (r_iinc (v := x3 + (1 : Int32)) (L' := [(3, .int (x3 + (1 : Int32))), (2, .int (x2 + (bI (if s0 = false then false else true)))), (0, .ref x0), (1, .int x1)]) C (u := 3) rfl (by rfl) (by decide) rfl dX3_countOf_89 (r_goto (tgt := 4) C (by decide) dX3_countOf_92 ?_)))
    exact r_sub C [2, 3, 1, 0] rfl (hLA4 _ _ _ _ _ hw)
  refine r_if_eq_b (tgt := 86) C (by decide) dX3_countOf_79 (fun hc22 => ?_) (fun hc22 => ?_)
  · have hJ23 := hJ
    try simp only [if_pos hc22] at hJ23
    refine r_iconst (v := (0 : Int32)) C (by decide) dX3_countOf_86 ?_
    exact r_sub C [1, 2, 4] rfl hJ23
  · have hJ23 := hJ
    try simp only [if_neg (show ¬ s0 = false from by rw [hc22]; decide)] at hJ23
    refine r_iconst (v := (1 : Int32)) C (by decide) dX3_countOf_82 (r_goto (tgt := 87) C (by decide) dX3_countOf_83 ?_)
    exact r_sub C [1, 2, 4] rfl hJ23
theorem s_X3_countOf_4 {G : gT} {l : Launch} {V : Hp → Nat → Nat → Nat → List (Nat × Value) → List Value → Prop} {Q : Int32 → Hp → Prop} (C : Cx G l V cX3_countOf 5 RX3 3 59 0 0 (pI Q) none (some .int) [] false) (LA4 : Hp → Nat → Int32 → Int32 → Int32 → Prop) (hLA4 : ∀ (h : Hp) (x0 : Nat) (x1 : Int32) (x2 : Int32) (x3 : Int32), LA4 h x0 x1 x2 x3 → V h 0 0 4 [(0, .ref x0), (1, .int x1), (2, .int x2), (3, .int x3)] []) (h : Hp) (x0 : Nat) (x1 : Int32) (x2 : Int32) (x3 : Int32) (hw : S_X3_countOf_4 Q LA4 h x0 x1 x2 x3) : V h 0 0 4 [(0, .ref x0), (1, .int x1), (2, .int x2), (3, .int x3)] [] := by
  unfold S_X3_countOf_4 at hw
  refine r_iload_n C rfl 3 rfl dX3_countOf_4 (r_aload_n C rfl 0 rfl dX3_countOf_5 ?_)
  refine r_gfR (k := 1) C kX3 (by decide) (Or.inl q2156) (Or.inl rfl) dX3_countOf_6 hw (fun v1 hw => ?_)
  refine r_iconst (v := (2 : Int32)) C (by decide) dX3_countOf_9 ?_
  obtain ⟨y2, rfl, hw_y2⟩ := hw
  have hw := hw_y2
  refine r_iaload C dX3_countOf_10 hw (fun v3 hw => ?_)
  refine r_icmp_ge (tgt := 95) C (by decide) dX3_countOf_11 (fun hc4 => ?_) (fun hc4 => ?_)
  · have hw := hw.1 hc4
    refine r_iload_n C rfl 2 rfl dX3_countOf_95 ?_
    exact r_ireturn C dX3_countOf_96 (Nat.le_refl _) (Nat.le_refl _) ⟨_, rfl, hw⟩
  · have hw := hw.2 hc4
    refine r_iload_n C rfl 1 rfl dX3_countOf_14 (r_iconst (v := (4 : Int32)) C (by decide) dX3_countOf_15 ?_)
    refine r_icmp_ne (tgt := 30) C (by decide) dX3_countOf_16 (fun hc5 => ?_) (fun hc5 => ?_)
    · have hw := hw.1 hc5
      refine r_iload_n C rfl 1 rfl dX3_countOf_30 (r_iconst (v := (5 : Int32)) C (by decide) dX3_countOf_31 ?_)
      refine r_icmp_ne (tgt := 57) C (by decide) dX3_countOf_32 (fun hc6 => ?_) (fun hc6 => ?_)
      · have hw := hw.1 hc6
        refine r_aload_n C rfl 0 rfl dX3_countOf_57 ?_
        refine r_gfR (k := 1) C kX3 (by decide) (Or.inl q2156) (Or.inl rfl) dX3_countOf_58 hw (fun v7 hw => ?_)
        refine r_iload_n C rfl 3 rfl dX3_countOf_61 ?_
        obtain ⟨y8, rfl, hw_y8⟩ := hw
        have hw := hw_y8
        refine r_callS (rest := []) (As := [.ref y8, .int x3]) C sg_X3_shelfOf q2398 q2399 q90 q2400 rfl (Nat.le_of_ble_eq_true rfl) dX3_countOf_62 rfl (Nat.le_refl _) (Nat.le_refl _) (c_X3_shelfOf G l y8 x3 h _ hw) (k_I (fun r9 h10 hw => ?_))
        refine r_iconst (v := (-1 : Int32)) C (by decide) dX3_countOf_65 ?_
        have hJ : V h10 0 0 74 [(0, .ref x0), (1, .int x1), (2, .int x2), (3, .int x3)] [.int (bI (if r9 = (-1 : Int32) then false else true))] := by
          exact r_sub C [0, 1, 2, 3] rfl (b_X3_countOf_74 C LA4 hLA4 _ _ _ _ _ _ hw)
        refine r_icmp_eq (tgt := 73) C (by decide) dX3_countOf_66 (fun hc11 => ?_) (fun hc11 => ?_)
        · have hJ12 := hJ
          try simp only [if_pos hc11] at hJ12
          refine r_iconst (v := (0 : Int32)) C (by decide) dX3_countOf_73 ?_
          exact r_sub C [0, 1, 2, 3] rfl hJ12
        · have hJ12 := hJ
          try simp only [if_neg hc11] at hJ12
          refine r_iconst (v := (1 : Int32)) C (by decide) dX3_countOf_69 (r_goto (tgt := 74) C (by decide) dX3_countOf_70 ?_)
          exact r_sub C [0, 1, 2, 3] rfl hJ12
      · have hw := hw.2 hc6
        refine r_aload_n C rfl 0 rfl dX3_countOf_35 ?_
        refine r_gfR (k := 1) C kX3 (by decide) (Or.inl q2156) (Or.inl rfl) dX3_countOf_36 hw (fun v13 hw => ?_)
        refine r_sipush (v := (225 : Int32)) C (by decide) dX3_countOf_39 (r_iload_n C rfl 3 rfl dX3_countOf_42 (r_iadd C dX3_countOf_43 ?_))
        obtain ⟨y14, rfl, hw_y14⟩ := hw
        have hw := hw_y14
        refine r_iaload C dX3_countOf_44 hw (fun v15 hw => ?_)
        refine r_iconst (v := (-1 : Int32)) C (by decide) dX3_countOf_45 ?_
        have hJ : V h 0 0 74 [(0, .ref x0), (1, .int x1), (2, .int x2), (3, .int x3)] [.int (bI (if v15 = (-1 : Int32) then false else true))] := by
          exact r_sub C [0, 1, 2, 3] rfl (b_X3_countOf_74 C LA4 hLA4 _ _ _ _ _ _ hw)
        refine r_icmp_eq (tgt := 53) C (by decide) dX3_countOf_46 (fun hc16 => ?_) (fun hc16 => ?_)
        · have hJ17 := hJ
          try simp only [if_pos hc16] at hJ17
          refine r_iconst (v := (0 : Int32)) C (by decide) dX3_countOf_53 (r_goto (tgt := 74) C (by decide) dX3_countOf_54 ?_)
          exact r_sub C [0, 1, 2, 3] rfl hJ17
        · have hJ17 := hJ
          try simp only [if_neg hc16] at hJ17
          refine r_iconst (v := (1 : Int32)) C (by decide) dX3_countOf_49 (r_goto (tgt := 74) C (by decide) dX3_countOf_50 ?_)
          exact r_sub C [0, 1, 2, 3] rfl hJ17
    · have hw := hw.2 hc5
      refine r_aload_n C rfl 0 rfl dX3_countOf_19 ?_
      refine r_gfR (k := 1) C kX3 (by decide) (Or.inl q2156) (Or.inl rfl) dX3_countOf_20 hw (fun v18 hw => ?_)
      refine r_iload_n C rfl 3 rfl dX3_countOf_23 ?_
      obtain ⟨y19, rfl, hw_y19⟩ := hw
      have hw := hw_y19
      refine r_callS (rest := []) (As := [.ref y19, .int x3]) C sg_X3_isCast q2346 q2347 q90 q2348 rfl (Nat.le_of_ble_eq_true rfl) dX3_countOf_24 rfl (Nat.le_refl _) (Nat.le_refl _) (c_X3_isCast G l y19 x3 h _ hw) (k_Z (fun r20 h21 hw => ?_))
      refine r_goto (tgt := 74) C (by decide) dX3_countOf_27 ?_
      exact r_sub C [0, 1, 2, 3] rfl (b_X3_countOf_74 C LA4 hLA4 _ _ _ _ _ _ hw)
theorem b_X3_countOf_4 {G : gT} {l : Launch} {V : Hp → Nat → Nat → Nat → List (Nat × Value) → List Value → Prop} {Q : Int32 → Hp → Prop} (C : Cx G l V cX3_countOf 5 RX3 3 59 0 0 (pI Q) none (some .int) [] false) : ∀ (k : Nat) (h : Hp) (x0 : Nat) (x1 : Int32) (x2 : Int32) (x3 : Int32), B_X3_countOf_4 Q k h x0 x1 x2 x3 → V h 0 0 4 [(0, .ref x0), (1, .int x1), (2, .int x2), (3, .int x3)] [] := by
  intro k
  induction k with
  | zero =>
    intro h x0 x1 x2 x3 hw
    exact hw.elim
  | succ k ih =>
    intro h x0 x1 x2 x3 hw
    exact s_X3_countOf_4 C _ (fun h x0 x1 x2 x3 hw => ih h x0 x1 x2 x3 hw) h x0 x1 x2 x3 hw
theorem sg_X3_countOf : ySg yX3_countOf 1 = true := by decide +kernel
theorem c_X3_countOf (G : gT) (l : Launch) (a0 : Nat) (i1 : Int32) (h : Hp) (Q : Int32 → Hp → Prop) (hw : w_X3_countOf a0 i1 h Q) : Ct G l yX3_countOf (ws_ yX3_countOf cX3_countOf 5 (some .int)) 3 59 0 0 [.ref a0, .int i1] h (pI Q) := by
  refine Ct.of (own := RX3) false (by decide +kernel) rfl (show (_ : Nat) ≤ _ from Nat.le_of_ble_eq_true rfl) (fun z => by cases z) (fun V C => ?_)
  show V h 0 0 0 [(0, .ref a0), (1, .int i1)] []
  unfold w_X3_countOf at hw
  refine r_iconst (v := (0 : Int32)) C (by decide) dX3_countOf_0 (r_istore_n (L' := [(2, .int (0 : Int32)), (0, .ref a0), (1, .int i1)]) C rfl (by decide) rfl dX3_countOf_1 (r_iconst (v := (0 : Int32)) C (by decide) dX3_countOf_2 (r_istore_n (L' := [(3, .int (0 : Int32)), (2, .int (0 : Int32)), (0, .ref a0), (1, .int i1)]) C rfl (by decide) rfl dX3_countOf_3 ?_)))
  obtain ⟨k9, hw⟩ := hw
  exact r_sub C [2, 3, 1, 0] rfl (b_X3_countOf_4 C _ _ _ _ _ _ hw)
def w_X3_maskOf (a0 : Nat) (i1 : Int32) (h : Hp) (Q : Int32 → Hp → Prop) : Prop :=
  rdI h a0 ((153 : Int32) + i1) (fun v1 => (¬ v1 = (-1 : Int32) → rdI h a0 ((153 : Int32) + i1) (fun v3 => Q ((1 : Int32) <<< (v3 &&& 31)) h)) ∧ (v1 = (-1 : Int32) → Q (0 : Int32) h))
theorem sg_X3_maskOf : ySg yX3_maskOf 2 = true := by decide +kernel
theorem c_X3_maskOf (G : gT) (l : Launch) (a0 : Nat) (i1 : Int32) (h : Hp) (Q : Int32 → Hp → Prop) (hw : w_X3_maskOf a0 i1 h Q) : Ct G l yX3_maskOf (ws_ yX3_maskOf cX3_maskOf 2 (some .int)) 1 12 0 0 [.ref a0, .int i1] h (pI Q) := by
  refine Ct.of (own := RX3) false (by decide +kernel) rfl (show (_ : Nat) ≤ _ from Nat.le_of_ble_eq_true rfl) (fun z => by cases z) (fun V C => ?_)
  show V h 0 0 0 [(0, .ref a0), (1, .int i1)] []
  unfold w_X3_maskOf at hw
  refine r_aload_n C rfl 0 rfl dX3_maskOf_0 (r_sipush (v := (153 : Int32)) C (by decide) dX3_maskOf_1 (r_iload_n C rfl 1 rfl dX3_maskOf_4 (r_iadd C dX3_maskOf_5 ?_)))
  refine r_iaload C dX3_maskOf_6 hw (fun v1 hw => ?_)
  refine r_iconst (v := (-1 : Int32)) C (by decide) dX3_maskOf_7 ?_
  refine r_icmp_ne (tgt := 15) C (by decide) dX3_maskOf_8 (fun hc2 => ?_) (fun hc2 => ?_)
  · have hw := hw.1 hc2
    refine r_iconst (v := (1 : Int32)) C (by decide) dX3_maskOf_15 (r_aload_n C rfl 0 rfl dX3_maskOf_16 (r_sipush (v := (153 : Int32)) C (by decide) dX3_maskOf_17 (r_iload_n C rfl 1 rfl dX3_maskOf_20 (r_iadd C dX3_maskOf_21 ?_))))
    refine r_iaload C dX3_maskOf_22 hw (fun v3 hw => ?_)
    refine r_ishl C dX3_maskOf_23 ?_
    exact r_ireturn C dX3_maskOf_24 (Nat.le_refl _) (Nat.le_refl _) ⟨_, rfl, hw⟩
  · have hw := hw.2 hc2
    refine r_iconst (v := (0 : Int32)) C (by decide) dX3_maskOf_11 (r_goto (tgt := 24) C (by decide) dX3_maskOf_12 ?_)
    exact r_ireturn C dX3_maskOf_24 (Nat.le_refl _) (Nat.le_refl _) ⟨_, rfl, hw⟩
def w_X3_ends (a0 : Nat) (i1 : Int32) (h : Hp) (Q : Int32 → Hp → Prop) : Prop :=
  rdI h a0 (0 : Int32) (fun v1 => (v1 ≤ (i1 + (1 : Int32)) → Q (1999 : Int32) h) ∧ (¬ v1 ≤ (i1 + (1 : Int32)) → rdI h a0 (((5 : Int32) + i1) + (1 : Int32)) (fun v3 => Q (v3 - (1 : Int32)) h)))
theorem sg_X3_ends : ySg yX3_ends 2 = true := by decide +kernel
theorem c_X3_ends (G : gT) (l : Launch) (a0 : Nat) (i1 : Int32) (h : Hp) (Q : Int32 → Hp → Prop) (hw : w_X3_ends a0 i1 h Q) : Ct G l yX3_ends (ws_ yX3_ends cX3_ends 2 (some .int)) 1 12 0 0 [.ref a0, .int i1] h (pI Q) := by
  refine Ct.of (own := RX3) false (by decide +kernel) rfl (show (_ : Nat) ≤ _ from Nat.le_of_ble_eq_true rfl) (fun z => by cases z) (fun V C => ?_)
  show V h 0 0 0 [(0, .ref a0), (1, .int i1)] []
  unfold w_X3_ends at hw
  refine r_iload_n C rfl 1 rfl dX3_ends_0 (r_iconst (v := (1 : Int32)) C (by decide) dX3_ends_1 (r_iadd C dX3_ends_2 (r_aload_n C rfl 0 rfl dX3_ends_3 (r_iconst (v := (0 : Int32)) C (by decide) dX3_ends_4 ?_))))
  refine r_iaload C dX3_ends_5 hw (fun v1 hw => ?_)
  refine r_icmp_ge (tgt := 21) C (by decide) dX3_ends_6 (fun hc2 => ?_) (fun hc2 => ?_)
  · have hw := hw.1 hc2
    refine r_sipush (v := (1999 : Int32)) C (by decide) dX3_ends_21 ?_
    exact r_ireturn C dX3_ends_24 (Nat.le_refl _) (Nat.le_refl _) ⟨_, rfl, hw⟩
  · have hw := hw.2 hc2
    refine r_aload_n C rfl 0 rfl dX3_ends_9 (r_iconst (v := (5 : Int32)) C (by decide) dX3_ends_10 (r_iload_n C rfl 1 rfl dX3_ends_11 (r_iadd C dX3_ends_12 (r_iconst (v := (1 : Int32)) C (by decide) dX3_ends_13 (r_iadd C dX3_ends_14 ?_)))))
    refine r_iaload C dX3_ends_15 hw (fun v3 hw => ?_)
    refine r_iconst (v := (1 : Int32)) C (by decide) dX3_ends_16 (r_isub C dX3_ends_17 (r_goto (tgt := 24) C (by decide) dX3_ends_18 ?_))
    exact r_ireturn C dX3_ends_24 (Nat.le_refl _) (Nat.le_refl _) ⟨_, rfl, hw⟩
def B_X3_years_109 (Q : Int32 → Hp → Prop) (LA12 : Hp → Nat → Int32 → Int32 → Int32 → Int32 → Int32 → Int32 → Int32 → Int32 → Prop) (h : Hp) (x0 : Nat) (x1 : Int32) (x2 : Int32) (x3 : Int32) (x4 : Int32) (x5 : Int32) (x6 : Int32) (x7 : Int32) (x8 : Int32) (x9 : Int32) (x10 : Int32) (s0 : Bool) : Prop :=
  LA12 h x0 x1 x2 x3 x4 (if s0 = false then x5 else (if ¬ x5 = (-1 : Int32) then x5 else x9)) (if s0 = false then x6 else x10) (x7 + (if s0 = false then (0 : Int32) else (x10 - x9) + (1 : Int32))) (x8 + (1 : Int32))
def B_X3_years_78 (Q : Int32 → Hp → Prop) (LA12 : Hp → Nat → Int32 → Int32 → Int32 → Int32 → Int32 → Int32 → Int32 → Int32 → Prop) (h : Hp) (x0 : Nat) (x1 : Int32) (x2 : Int32) (x3 : Int32) (x4 : Int32) (x5 : Int32) (x6 : Int32) (x7 : Int32) (x8 : Int32) (x9 : Int32) (s0 : Int32) : Prop :=
  (s0 < x9 → B_X3_years_109 Q LA12 h x0 x1 x2 x3 x4 x5 x6 x7 x8 x9 s0 false) ∧ (¬ s0 < x9 → (x3 = 0 → B_X3_years_109 Q LA12 h x0 x1 x2 x3 x4 x5 x6 x7 x8 x9 s0 true) ∧ (¬ x3 = 0 → rdI h x0 ((15 : Int32) + x8) (fun v20 => B_X3_years_109 Q LA12 h x0 x1 x2 x3 x4 x5 x6 x7 x8 x9 s0 (if ¬ (v20 &&& x3) = x3 then false else true))))
def B_X3_years_68 (Q : Int32 → Hp → Prop) (LA12 : Hp → Nat → Int32 → Int32 → Int32 → Int32 → Int32 → Int32 → Int32 → Int32 → Prop) (h : Hp) (x0 : Nat) (x1 : Int32) (x2 : Int32) (x3 : Int32) (x4 : Int32) (x5 : Int32) (x6 : Int32) (x7 : Int32) (x8 : Int32) (x9 : Int32) : Prop :=
  B_X3_years_78 Q LA12 h x0 x1 x2 x3 x4 x5 x6 x7 x8 x9 x2
def B_X3_years_52 (Q : Int32 → Hp → Prop) (LA12 : Hp → Nat → Int32 → Int32 → Int32 → Int32 → Int32 → Int32 → Int32 → Int32 → Prop) (h : Hp) (x0 : Nat) (x1 : Int32) (x2 : Int32) (x3 : Int32) (x4 : Int32) (x5 : Int32) (x6 : Int32) (x7 : Int32) (x8 : Int32) (s0 : Int32) : Prop :=
  (x3 = 0 → B_X3_years_68 Q LA12 h x0 x1 x2 x3 x4 x5 x6 x7 x8 s0) ∧ (¬ x3 = 0 → w_X3_ends x0 x8 h (fun r13 h14 => (r13 ≤ x2 → w_X3_ends x0 x8 h14 (fun r16 h17 => B_X3_years_78 Q LA12 h17 x0 x1 x2 x3 x4 x5 x6 x7 x8 s0 r16)) ∧ (¬ r13 ≤ x2 → B_X3_years_68 Q LA12 h14 x0 x1 x2 x3 x4 x5 x6 x7 x8 s0)))
def B_X3_years_42 (Q : Int32 → Hp → Prop) (LA12 : Hp → Nat → Int32 → Int32 → Int32 → Int32 → Int32 → Int32 → Int32 → Int32 → Prop) (h : Hp) (x0 : Nat) (x1 : Int32) (x2 : Int32) (x3 : Int32) (x4 : Int32) (x5 : Int32) (x6 : Int32) (x7 : Int32) (x8 : Int32) : Prop :=
  B_X3_years_52 Q LA12 h x0 x1 x2 x3 x4 x5 x6 x7 x8 x1
def B_X3_years_25 (Q : Int32 → Hp → Prop) (LA12 : Hp → Nat → Int32 → Int32 → Int32 → Int32 → Int32 → Int32 → Int32 → Int32 → Prop) (h : Hp) (x0 : Nat) (x1 : Int32) (x2 : Int32) (x3 : Int32) (x4 : Int32) (x5 : Int32) (x6 : Int32) (x7 : Int32) (x8 : Int32) (s0 : Int32) (s1 : Int32) : Prop :=
  (s1 ≤ s0 → Q (if ¬ x4 = 0 then (if ¬ x4 = (1 : Int32) then x7 else x6) else x5) h) ∧ (¬ s1 ≤ s0 → (x3 = 0 → B_X3_years_42 Q LA12 h x0 x1 x2 x3 x4 x5 x6 x7 x8) ∧ (¬ x3 = 0 → rdI h x0 ((5 : Int32) + x8) (fun v9 => (x1 ≤ v9 → rdI h x0 ((5 : Int32) + x8) (fun v11 => B_X3_years_52 Q LA12 h x0 x1 x2 x3 x4 x5 x6 x7 x8 v11)) ∧ (¬ x1 ≤ v9 → B_X3_years_42 Q LA12 h x0 x1 x2 x3 x4 x5 x6 x7 x8))))
def S_X3_years_12 (Q : Int32 → Hp → Prop) (LA12 : Hp → Nat → Int32 → Int32 → Int32 → Int32 → Int32 → Int32 → Int32 → Int32 → Prop) (h : Hp) (x0 : Nat) (x1 : Int32) (x2 : Int32) (x3 : Int32) (x4 : Int32) (x5 : Int32) (x6 : Int32) (x7 : Int32) (x8 : Int32) : Prop :=
  (¬ x3 = 0 → rdI h x0 (0 : Int32) (fun v2 => B_X3_years_25 Q LA12 h x0 x1 x2 x3 x4 x5 x6 x7 x8 x8 v2)) ∧ (x3 = 0 → B_X3_years_25 Q LA12 h x0 x1 x2 x3 x4 x5 x6 x7 x8 x8 (1 : Int32))
def B_X3_years_12 (Q : Int32 → Hp → Prop) : Nat → Hp → Nat → Int32 → Int32 → Int32 → Int32 → Int32 → Int32 → Int32 → Int32 → Prop
  | 0, _, _, _, _, _, _, _, _, _, _ => False
  | k + 1, h, x0, x1, x2, x3, x4, x5, x6, x7, x8 => S_X3_years_12 Q (B_X3_years_12 Q k) h x0 x1 x2 x3 x4 x5 x6 x7 x8
def w_X3_years (a0 : Nat) (i1 : Int32) (i2 : Int32) (i3 : Int32) (i4 : Int32) (h : Hp) (Q : Int32 → Hp → Prop) : Prop :=
  ∃ k9 : Nat, B_X3_years_12 Q k9 h a0 i1 i2 i3 i4 (-1 : Int32) (-1 : Int32) (0 : Int32) (0 : Int32)
theorem b_X3_years_109 {G : gT} {l : Launch} {V : Hp → Nat → Nat → Nat → List (Nat × Value) → List Value → Prop} {Q : Int32 → Hp → Prop} (C : Cx G l V cX3_years 12 RX3 2 33 0 0 (pI Q) none (some .int) [] false) (LA12 : Hp → Nat → Int32 → Int32 → Int32 → Int32 → Int32 → Int32 → Int32 → Int32 → Prop) (hLA12 : ∀ (h : Hp) (x0 : Nat) (x1 : Int32) (x2 : Int32) (x3 : Int32) (x4 : Int32) (x5 : Int32) (x6 : Int32) (x7 : Int32) (x8 : Int32), LA12 h x0 x1 x2 x3 x4 x5 x6 x7 x8 → V h 0 0 12 [(0, .ref x0), (1, .int x1), (2, .int x2), (3, .int x3), (4, .int x4), (5, .int x5), (6, .int x6), (7, .int x7), (8, .int x8)] []) (h : Hp) (x0 : Nat) (x1 : Int32) (x2 : Int32) (x3 : Int32) (x4 : Int32) (x5 : Int32) (x6 : Int32) (x7 : Int32) (x8 : Int32) (x9 : Int32) (x10 : Int32) (s0 : Bool) (hw : B_X3_years_109 Q LA12 h x0 x1 x2 x3 x4 x5 x6 x7 x8 x9 x10 s0) : V h 0 0 109 [(0, .ref x0), (1, .int x1), (2, .int x2), (3, .int x3), (4, .int x4), (5, .int x5), (6, .int x6), (7, .int x7), (8, .int x8), (9, .int x9), (10, .int x10)] [.int (bI s0)] := by
  unfold B_X3_years_109 at hw
  refine r_istore (L' := [(11, .int (bI s0)), (0, .ref x0), (1, .int x1), (2, .int x2), (3, .int x3), (4, .int x4), (5, .int x5), (6, .int x6), (7, .int x7), (8, .int x8), (9, .int x9), (10, .int x10)]) C (by decide) rfl dX3_years_109 (r_iload C 0 rfl dX3_years_111 ?_)
  have hJ : V h 0 0 129 [(11, .int (bI s0)), (0, .ref x0), (1, .int x1), (2, .int x2), (3, .int x3), (4, .int x4), (6, .int x6), (7, .int x7), (8, .int x8), (9, .int x9), (10, .int x10)] [.int (if s0 = false then x5 else (if ¬ x5 = (-1 : Int32) then x5 else x9))] := by
    refine r_istore (L' := [(5, .int (if s0 = false then x5 else (if ¬ x5 = (-1 : Int32) then x5 else x9))), (11, .int (bI s0)), (0, .ref x0), (1, .int x1), (2, .int x2), (3, .int x3), (4, .int x4), (6, .int x6), (7, .int x7), (8, .int x8), (9, .int x9), (10, .int x10)]) C (by decide) rfl dX3_years_129 (r_iload C 1 rfl dX3_years_131 ?_)
    have hJ : V h 0 0 143 [(5, .int (if s0 = false then x5 else (if ¬ x5 = (-1 : Int32) then x5 else x9))), (11, .int (bI s0)), (0, .ref x0), (1, .int x1), (2, .int x2), (3, .int x3), (4, .int x4), (7, .int x7), (8, .int x8), (9, .int x9), (10, .int x10)] [.int (if s0 = false then x6 else x10)] := by
      refine r_istore (L' := [(6, .int (if s0 = false then x6 else x10)), (5, .int (if s0 = false then x5 else (if ¬ x5 = (-1 : Int32) then x5 else x9))), (11, .int (bI s0)), (0, .ref x0), (1, .int x1), (2, .int x2), (3, .int x3), (4, .int x4), (7, .int x7), (8, .int x8), (9, .int x9), (10, .int x10)]) C (by decide) rfl dX3_years_143 (r_iload C 8 rfl dX3_years_145 (r_iload C 2 rfl dX3_years_147 ?_))
      have hJ : V h 0 0 163 [(6, .int (if s0 = false then x6 else x10)), (5, .int (if s0 = false then x5 else (if ¬ x5 = (-1 : Int32) then x5 else x9))), (0, .ref x0), (1, .int x1), (2, .int x2), (3, .int x3), (4, .int x4), (8, .int x8)] [.int (if s0 = false then (0 : Int32) else (x10 - x9) + (1 : Int32)), .int x7] := by
        refine r_iadd C dX3_years_163 (r_istore (L' := [(7, .int (x7 + (if s0 = false then (0 : Int32) else (x10 - x9) + (1 : Int32)))), (6, .int (if s0 = false then x6 else x10)), (5, .int (if s0 = false then x5 else (if ¬ x5 = (-1 : Int32) then x5 else x9))), (0, .ref x0), (1, .int x1), (2, .int x2), (3, .int x3), (4, .int x4), (8, .int x8)]) C (by decide) rfl dX3_years_164 (r_iinc (v := x8 + (1 : Int32)) (L' := [(8, .int (x8 + (1 : Int32))), (7, .int (x7 + (if s0 = false then (0 : Int32) else (x10 - x9) + (1 : Int32)))), (6, .int (if s0 = false then x6 else x10)), (5, .int (if s0 = false then x5 else (if ¬ x5 = (-1 : Int32) then x5 else x9))), (0, .ref x0), (1, .int x1), (2, .int x2), (3, .int x3), (4, .int x4)]) C (u := 8) rfl (by rfl) (by decide) rfl dX3_years_166 (r_goto (tgt := 12) C (by decide) dX3_years_169 ?_)))
        exact r_sub C [4, 5, 6, 7, 8, 3, 2, 1, 0] rfl (hLA12 _ _ _ _ _ _ _ _ _ _ hw)
      refine r_if_eq_b (tgt := 162) C (by decide) dX3_years_149 (fun hc23 => ?_) (fun hc23 => ?_)
      · have hJ24 := hJ
        try simp only [if_pos hc23] at hJ24 ⊢
        refine r_iconst (v := (0 : Int32)) C (by decide) dX3_years_162 ?_
        exact r_sub C [0, 1, 3, 4, 5, 6, 7, 9] rfl hJ24
      · have hJ24 := hJ
        try simp only [if_neg (show ¬ s0 = false from by rw [hc23]; decide)] at hJ24 ⊢
        refine r_iload C 11 rfl dX3_years_152 (r_iload C 10 rfl dX3_years_154 (r_isub C dX3_years_156 (r_iconst (v := (1 : Int32)) C (by decide) dX3_years_157 (r_iadd C dX3_years_158 (r_goto (tgt := 163) C (by decide) dX3_years_159 ?_)))))
        exact r_sub C [0, 1, 3, 4, 5, 6, 7, 9] rfl hJ24
    refine r_if_eq_b (tgt := 141) C (by decide) dX3_years_133 (fun hc25 => ?_) (fun hc25 => ?_)
    · have hJ26 := hJ
      try simp only [if_pos hc25] at hJ26 ⊢
      refine r_iload C 7 rfl dX3_years_141 ?_
      exact r_sub C [0, 1, 2, 3, 4, 5, 6, 8, 9, 10, 11] rfl hJ26
    · have hJ26 := hJ
      try simp only [if_neg (show ¬ s0 = false from by rw [hc25]; decide)] at hJ26 ⊢
      refine r_iload C 11 rfl dX3_years_136 (r_goto (tgt := 143) C (by decide) dX3_years_138 ?_)
      exact r_sub C [0, 1, 2, 3, 4, 5, 6, 8, 9, 10, 11] rfl hJ26
  refine r_if_eq_b (tgt := 127) C (by decide) dX3_years_113 (fun hc27 => ?_) (fun hc27 => ?_)
  · have hJ28 := hJ
    try simp only [if_pos hc27] at hJ28
    refine r_iload C 6 rfl dX3_years_127 ?_
    exact r_sub C [0, 1, 2, 3, 4, 5, 7, 8, 9, 10, 11] rfl hJ28
  · have hJ28 := hJ
    try simp only [if_neg (show ¬ s0 = false from by rw [hc27]; decide)] at hJ28
    refine r_iload C 6 rfl dX3_years_116 (r_iconst (v := (-1 : Int32)) C (by decide) dX3_years_118 ?_)
    refine r_icmp_ne (tgt := 127) C (by decide) dX3_years_119 (fun hc29 => ?_) (fun hc29 => ?_)
    · have hJ30 := hJ28
      try simp only [if_pos hc29] at hJ30
      refine r_iload C 6 rfl dX3_years_127 ?_
      exact r_sub C [0, 1, 2, 3, 4, 5, 7, 8, 9, 10, 11] rfl hJ30
    · have hJ30 := hJ28
      try simp only [if_neg (show ¬ ¬ x5 = (-1 : Int32) from fun z => z hc29)] at hJ30
      refine r_iload C 10 rfl dX3_years_122 (r_goto (tgt := 129) C (by decide) dX3_years_124 ?_)
      exact r_sub C [0, 1, 2, 3, 4, 5, 7, 8, 9, 10, 11] rfl hJ30
theorem b_X3_years_78 {G : gT} {l : Launch} {V : Hp → Nat → Nat → Nat → List (Nat × Value) → List Value → Prop} {Q : Int32 → Hp → Prop} (C : Cx G l V cX3_years 12 RX3 2 33 0 0 (pI Q) none (some .int) [] false) (LA12 : Hp → Nat → Int32 → Int32 → Int32 → Int32 → Int32 → Int32 → Int32 → Int32 → Prop) (hLA12 : ∀ (h : Hp) (x0 : Nat) (x1 : Int32) (x2 : Int32) (x3 : Int32) (x4 : Int32) (x5 : Int32) (x6 : Int32) (x7 : Int32) (x8 : Int32), LA12 h x0 x1 x2 x3 x4 x5 x6 x7 x8 → V h 0 0 12 [(0, .ref x0), (1, .int x1), (2, .int x2), (3, .int x3), (4, .int x4), (5, .int x5), (6, .int x6), (7, .int x7), (8, .int x8)] []) (h : Hp) (x0 : Nat) (x1 : Int32) (x2 : Int32) (x3 : Int32) (x4 : Int32) (x5 : Int32) (x6 : Int32) (x7 : Int32) (x8 : Int32) (x9 : Int32) (s0 : Int32) (hw : B_X3_years_78 Q LA12 h x0 x1 x2 x3 x4 x5 x6 x7 x8 x9 s0) : V h 0 0 78 [(0, .ref x0), (1, .int x1), (2, .int x2), (3, .int x3), (4, .int x4), (5, .int x5), (6, .int x6), (7, .int x7), (8, .int x8), (9, .int x9)] [.int s0] := by
  unfold B_X3_years_78 at hw
  refine r_istore (L' := [(10, .int s0), (0, .ref x0), (1, .int x1), (2, .int x2), (3, .int x3), (4, .int x4), (5, .int x5), (6, .int x6), (7, .int x7), (8, .int x8), (9, .int x9)]) C (by decide) rfl dX3_years_78 (r_iload C 10 rfl dX3_years_80 (r_iload C 0 rfl dX3_years_82 ?_))
  refine r_icmp_gt (tgt := 108) C (by decide) dX3_years_84 (fun hc18 => ?_) (fun hc18 => ?_)
  · have hw := hw.1 hc18
    refine r_iconst (v := (0 : Int32)) C (by decide) dX3_years_108 ?_
    exact r_sub C [1, 2, 3, 4, 5, 6, 7, 8, 9, 10, 0] rfl (b_X3_years_109 C LA12 hLA12 _ _ _ _ _ _ _ _ _ _ _ _ _ hw)
  · have hw := hw.2 hc18
    refine r_iload_n C rfl 4 rfl dX3_years_87 ?_
    refine r_if_eq (tgt := 104) C (by decide) dX3_years_88 (fun hc19 => ?_) (fun hc19 => ?_)
    · have hw := hw.1 hc19
      refine r_iconst (v := (1 : Int32)) C (by decide) dX3_years_104 (r_goto (tgt := 109) C (by decide) dX3_years_105 ?_)
      exact r_sub C [1, 2, 3, 4, 5, 6, 7, 8, 9, 10, 0] rfl (b_X3_years_109 C LA12 hLA12 _ _ _ _ _ _ _ _ _ _ _ _ _ hw)
    · have hw := hw.2 hc19
      refine r_aload_n C rfl 1 rfl dX3_years_91 (r_bipush (v := (15 : Int32)) C (by decide) dX3_years_92 (r_iload C 9 rfl dX3_years_94 (r_iadd C dX3_years_96 ?_)))
      refine r_iaload C dX3_years_97 hw (fun v20 hw => ?_)
      refine r_iload_n C rfl 4 rfl dX3_years_98 (r_iand C dX3_years_99 (r_iload_n C rfl 4 rfl dX3_years_100 ?_))
      have hJ : V h 0 0 109 [(10, .int s0), (0, .ref x0), (1, .int x1), (2, .int x2), (3, .int x3), (4, .int x4), (5, .int x5), (6, .int x6), (7, .int x7), (8, .int x8), (9, .int x9)] [.int (bI (if ¬ (v20 &&& x3) = x3 then false else true))] := by
        exact r_sub C [1, 2, 3, 4, 5, 6, 7, 8, 9, 10, 0] rfl (b_X3_years_109 C LA12 hLA12 _ _ _ _ _ _ _ _ _ _ _ _ _ hw)
      refine r_icmp_ne (tgt := 108) C (by decide) dX3_years_101 (fun hc21 => ?_) (fun hc21 => ?_)
      · have hJ22 := hJ
        try simp only [if_pos hc21] at hJ22
        refine r_iconst (v := (0 : Int32)) C (by decide) dX3_years_108 ?_
        exact r_sub C [0, 1, 2, 3, 4, 5, 6, 7, 8, 9, 10] rfl hJ22
      · have hJ22 := hJ
        try simp only [if_neg (show ¬ ¬ (v20 &&& x3) = x3 from fun z => z hc21)] at hJ22
        refine r_iconst (v := (1 : Int32)) C (by decide) dX3_years_104 (r_goto (tgt := 109) C (by decide) dX3_years_105 ?_)
        exact r_sub C [0, 1, 2, 3, 4, 5, 6, 7, 8, 9, 10] rfl hJ22
theorem b_X3_years_68 {G : gT} {l : Launch} {V : Hp → Nat → Nat → Nat → List (Nat × Value) → List Value → Prop} {Q : Int32 → Hp → Prop} (C : Cx G l V cX3_years 12 RX3 2 33 0 0 (pI Q) none (some .int) [] false) (LA12 : Hp → Nat → Int32 → Int32 → Int32 → Int32 → Int32 → Int32 → Int32 → Int32 → Prop) (hLA12 : ∀ (h : Hp) (x0 : Nat) (x1 : Int32) (x2 : Int32) (x3 : Int32) (x4 : Int32) (x5 : Int32) (x6 : Int32) (x7 : Int32) (x8 : Int32), LA12 h x0 x1 x2 x3 x4 x5 x6 x7 x8 → V h 0 0 12 [(0, .ref x0), (1, .int x1), (2, .int x2), (3, .int x3), (4, .int x4), (5, .int x5), (6, .int x6), (7, .int x7), (8, .int x8)] []) (h : Hp) (x0 : Nat) (x1 : Int32) (x2 : Int32) (x3 : Int32) (x4 : Int32) (x5 : Int32) (x6 : Int32) (x7 : Int32) (x8 : Int32) (x9 : Int32) (hw : B_X3_years_68 Q LA12 h x0 x1 x2 x3 x4 x5 x6 x7 x8 x9) : V h 0 0 68 [(0, .ref x0), (1, .int x1), (2, .int x2), (3, .int x3), (4, .int x4), (5, .int x5), (6, .int x6), (7, .int x7), (8, .int x8), (9, .int x9)] [] := by
  unfold B_X3_years_68 at hw
  refine r_iload_n C rfl 2 rfl dX3_years_68 (r_goto (tgt := 78) C (by decide) dX3_years_69 ?_)
  exact r_sub C [0, 1, 2, 3, 4, 5, 6, 7, 8, 9] rfl (b_X3_years_78 C LA12 hLA12 _ _ _ _ _ _ _ _ _ _ _ _ hw)
theorem b_X3_years_52 {G : gT} {l : Launch} {V : Hp → Nat → Nat → Nat → List (Nat × Value) → List Value → Prop} {Q : Int32 → Hp → Prop} (C : Cx G l V cX3_years 12 RX3 2 33 0 0 (pI Q) none (some .int) [] false) (LA12 : Hp → Nat → Int32 → Int32 → Int32 → Int32 → Int32 → Int32 → Int32 → Int32 → Prop) (hLA12 : ∀ (h : Hp) (x0 : Nat) (x1 : Int32) (x2 : Int32) (x3 : Int32) (x4 : Int32) (x5 : Int32) (x6 : Int32) (x7 : Int32) (x8 : Int32), LA12 h x0 x1 x2 x3 x4 x5 x6 x7 x8 → V h 0 0 12 [(0, .ref x0), (1, .int x1), (2, .int x2), (3, .int x3), (4, .int x4), (5, .int x5), (6, .int x6), (7, .int x7), (8, .int x8)] []) (h : Hp) (x0 : Nat) (x1 : Int32) (x2 : Int32) (x3 : Int32) (x4 : Int32) (x5 : Int32) (x6 : Int32) (x7 : Int32) (x8 : Int32) (s0 : Int32) (hw : B_X3_years_52 Q LA12 h x0 x1 x2 x3 x4 x5 x6 x7 x8 s0) : V h 0 0 52 [(0, .ref x0), (1, .int x1), (2, .int x2), (3, .int x3), (4, .int x4), (5, .int x5), (6, .int x6), (7, .int x7), (8, .int x8)] [.int s0] := by
  unfold B_X3_years_52 at hw
  refine r_istore (L' := [(9, .int s0), (0, .ref x0), (1, .int x1), (2, .int x2), (3, .int x3), (4, .int x4), (5, .int x5), (6, .int x6), (7, .int x7), (8, .int x8)]) C (by decide) rfl dX3_years_52 (r_iload_n C rfl 4 rfl dX3_years_54 ?_)
  refine r_if_eq (tgt := 68) C (by decide) dX3_years_55 (fun hc12 => ?_) (fun hc12 => ?_)
  · have hw := hw.1 hc12
    exact r_sub C [1, 2, 3, 4, 5, 6, 7, 8, 9, 0] rfl (b_X3_years_68 C LA12 hLA12 _ _ _ _ _ _ _ _ _ _ _ hw)
  · have hw := hw.2 hc12
    refine r_aload_n C rfl 1 rfl dX3_years_58 (r_iload C 9 rfl dX3_years_59 ?_)
    refine r_callS (rest := []) (As := [.ref x0, .int x8]) C sg_X3_ends q2355 q2356 q90 q2357 rfl (Nat.le_of_ble_eq_true rfl) dX3_years_61 rfl (Nat.le_refl _) (Nat.le_refl _) (c_X3_ends G l x0 x8 h _ hw) (k_I (fun r13 h14 hw => ?_))
    refine r_iload_n C rfl 3 rfl dX3_years_64 ?_
    refine r_icmp_le (tgt := 72) C (by decide) dX3_years_65 (fun hc15 => ?_) (fun hc15 => ?_)
    · have hw := hw.1 hc15
      refine r_aload_n C rfl 1 rfl dX3_years_72 (r_iload C 9 rfl dX3_years_73 ?_)
      refine r_callS (rest := []) (As := [.ref x0, .int x8]) C sg_X3_ends q2355 q2356 q90 q2357 rfl (Nat.le_of_ble_eq_true rfl) dX3_years_75 rfl (Nat.le_refl _) (Nat.le_refl _) (c_X3_ends G l x0 x8 h14 _ hw) (k_I (fun r16 h17 hw => ?_))
      exact r_sub C [1, 2, 3, 4, 5, 6, 7, 8, 9, 0] rfl (b_X3_years_78 C LA12 hLA12 _ _ _ _ _ _ _ _ _ _ _ _ hw)
    · have hw := hw.2 hc15
      exact r_sub C [1, 2, 3, 4, 5, 6, 7, 8, 9, 0] rfl (b_X3_years_68 C LA12 hLA12 _ _ _ _ _ _ _ _ _ _ _ hw)
theorem b_X3_years_42 {G : gT} {l : Launch} {V : Hp → Nat → Nat → Nat → List (Nat × Value) → List Value → Prop} {Q : Int32 → Hp → Prop} (C : Cx G l V cX3_years 12 RX3 2 33 0 0 (pI Q) none (some .int) [] false) (LA12 : Hp → Nat → Int32 → Int32 → Int32 → Int32 → Int32 → Int32 → Int32 → Int32 → Prop) (hLA12 : ∀ (h : Hp) (x0 : Nat) (x1 : Int32) (x2 : Int32) (x3 : Int32) (x4 : Int32) (x5 : Int32) (x6 : Int32) (x7 : Int32) (x8 : Int32), LA12 h x0 x1 x2 x3 x4 x5 x6 x7 x8 → V h 0 0 12 [(0, .ref x0), (1, .int x1), (2, .int x2), (3, .int x3), (4, .int x4), (5, .int x5), (6, .int x6), (7, .int x7), (8, .int x8)] []) (h : Hp) (x0 : Nat) (x1 : Int32) (x2 : Int32) (x3 : Int32) (x4 : Int32) (x5 : Int32) (x6 : Int32) (x7 : Int32) (x8 : Int32) (hw : B_X3_years_42 Q LA12 h x0 x1 x2 x3 x4 x5 x6 x7 x8) : V h 0 0 42 [(0, .ref x0), (1, .int x1), (2, .int x2), (3, .int x3), (4, .int x4), (5, .int x5), (6, .int x6), (7, .int x7), (8, .int x8)] [] := by
  unfold B_X3_years_42 at hw
  refine r_iload_n C rfl 1 rfl dX3_years_42 (r_goto (tgt := 52) C (by decide) dX3_years_43 ?_)
  exact r_sub C [0, 1, 2, 3, 4, 5, 6, 7, 8] rfl (b_X3_years_52 C LA12 hLA12 _ _ _ _ _ _ _ _ _ _ _ hw)
theorem b_X3_years_25 {G : gT} {l : Launch} {V : Hp → Nat → Nat → Nat → List (Nat × Value) → List Value → Prop} {Q : Int32 → Hp → Prop} (C : Cx G l V cX3_years 12 RX3 2 33 0 0 (pI Q) none (some .int) [] false) (LA12 : Hp → Nat → Int32 → Int32 → Int32 → Int32 → Int32 → Int32 → Int32 → Int32 → Prop) (hLA12 : ∀ (h : Hp) (x0 : Nat) (x1 : Int32) (x2 : Int32) (x3 : Int32) (x4 : Int32) (x5 : Int32) (x6 : Int32) (x7 : Int32) (x8 : Int32), LA12 h x0 x1 x2 x3 x4 x5 x6 x7 x8 → V h 0 0 12 [(0, .ref x0), (1, .int x1), (2, .int x2), (3, .int x3), (4, .int x4), (5, .int x5), (6, .int x6), (7, .int x7), (8, .int x8)] []) (h : Hp) (x0 : Nat) (x1 : Int32) (x2 : Int32) (x3 : Int32) (x4 : Int32) (x5 : Int32) (x6 : Int32) (x7 : Int32) (x8 : Int32) (s0 : Int32) (s1 : Int32) (hw : B_X3_years_25 Q LA12 h x0 x1 x2 x3 x4 x5 x6 x7 x8 s0 s1) : V h 0 0 25 [(0, .ref x0), (1, .int x1), (2, .int x2), (3, .int x3), (4, .int x4), (5, .int x5), (6, .int x6), (7, .int x7), (8, .int x8)] [.int s1, .int s0] := by
  unfold B_X3_years_25 at hw
  refine r_icmp_ge (tgt := 172) C (by decide) dX3_years_25 (fun hc3 => ?_) (fun hc3 => ?_)
  · have hw := hw.1 hc3
    refine r_iload C 4 rfl dX3_years_172 ?_
    have hJ : V h 0 0 195 [] [.int (if ¬ x4 = 0 then (if ¬ x4 = (1 : Int32) then x7 else x6) else x5)] := by
      exact r_ireturn C dX3_years_195 (Nat.le_refl _) (Nat.le_refl _) ⟨_, rfl, hw⟩
    refine r_if_ne (tgt := 182) C (by decide) dX3_years_174 (fun hc4 => ?_) (fun hc4 => ?_)
    · have hJ5 := hJ
      try simp only [if_pos hc4] at hJ5
      refine r_iload C 4 rfl dX3_years_182 (r_iconst (v := (1 : Int32)) C (by decide) dX3_years_184 ?_)
      refine r_icmp_ne (tgt := 193) C (by decide) dX3_years_185 (fun hc6 => ?_) (fun hc6 => ?_)
      · have hJ7 := hJ5
        try simp only [if_pos hc6] at hJ7
        refine r_iload C 7 rfl dX3_years_193 ?_
        exact r_sub C [] rfl hJ7
      · have hJ7 := hJ5
        try simp only [if_neg (show ¬ ¬ x4 = (1 : Int32) from fun z => z hc6)] at hJ7
        refine r_iload C 6 rfl dX3_years_188 (r_goto (tgt := 195) C (by decide) dX3_years_190 ?_)
        exact r_sub C [] rfl hJ7
    · have hJ5 := hJ
      try simp only [if_neg (show ¬ ¬ x4 = 0 from fun z => z hc4)] at hJ5
      refine r_iload C 5 rfl dX3_years_177 (r_goto (tgt := 195) C (by decide) dX3_years_179 ?_)
      exact r_sub C [] rfl hJ5
  · have hw := hw.2 hc3
    refine r_iload_n C rfl 3 rfl dX3_years_28 ?_
    refine r_if_eq (tgt := 42) C (by decide) dX3_years_29 (fun hc8 => ?_) (fun hc8 => ?_)
    · have hw := hw.1 hc8
      exact r_sub C [0, 1, 2, 3, 4, 5, 6, 7, 8] rfl (b_X3_years_42 C LA12 hLA12 _ _ _ _ _ _ _ _ _ _ hw)
    · have hw := hw.2 hc8
      refine r_aload_n C rfl 0 rfl dX3_years_32 (r_iconst (v := (5 : Int32)) C (by decide) dX3_years_33 (r_iload C 8 rfl dX3_years_34 (r_iadd C dX3_years_36 ?_)))
      refine r_iaload C dX3_years_37 hw (fun v9 hw => ?_)
      refine r_iload_n C rfl 1 rfl dX3_years_38 ?_
      refine r_icmp_ge (tgt := 46) C (by decide) dX3_years_39 (fun hc10 => ?_) (fun hc10 => ?_)
      · have hw := hw.1 hc10
        refine r_aload_n C rfl 0 rfl dX3_years_46 (r_iconst (v := (5 : Int32)) C (by decide) dX3_years_47 (r_iload C 8 rfl dX3_years_48 (r_iadd C dX3_years_50 ?_)))
        refine r_iaload C dX3_years_51 hw (fun v11 hw => ?_)
        exact r_sub C [0, 1, 2, 3, 4, 5, 6, 7, 8] rfl (b_X3_years_52 C LA12 hLA12 _ _ _ _ _ _ _ _ _ _ _ hw)
      · have hw := hw.2 hc10
        exact r_sub C [0, 1, 2, 3, 4, 5, 6, 7, 8] rfl (b_X3_years_42 C LA12 hLA12 _ _ _ _ _ _ _ _ _ _ hw)
theorem s_X3_years_12 {G : gT} {l : Launch} {V : Hp → Nat → Nat → Nat → List (Nat × Value) → List Value → Prop} {Q : Int32 → Hp → Prop} (C : Cx G l V cX3_years 12 RX3 2 33 0 0 (pI Q) none (some .int) [] false) (LA12 : Hp → Nat → Int32 → Int32 → Int32 → Int32 → Int32 → Int32 → Int32 → Int32 → Prop) (hLA12 : ∀ (h : Hp) (x0 : Nat) (x1 : Int32) (x2 : Int32) (x3 : Int32) (x4 : Int32) (x5 : Int32) (x6 : Int32) (x7 : Int32) (x8 : Int32), LA12 h x0 x1 x2 x3 x4 x5 x6 x7 x8 → V h 0 0 12 [(0, .ref x0), (1, .int x1), (2, .int x2), (3, .int x3), (4, .int x4), (5, .int x5), (6, .int x6), (7, .int x7), (8, .int x8)] []) (h : Hp) (x0 : Nat) (x1 : Int32) (x2 : Int32) (x3 : Int32) (x4 : Int32) (x5 : Int32) (x6 : Int32) (x7 : Int32) (x8 : Int32) (hw : S_X3_years_12 Q LA12 h x0 x1 x2 x3 x4 x5 x6 x7 x8) : V h 0 0 12 [(0, .ref x0), (1, .int x1), (2, .int x2), (3, .int x3), (4, .int x4), (5, .int x5), (6, .int x6), (7, .int x7), (8, .int x8)] [] := by
  unfold S_X3_years_12 at hw
  refine r_iload C 8 rfl dX3_years_12 (r_iload_n C rfl 3 rfl dX3_years_14 ?_)
  refine r_if_ne (tgt := 22) C (by decide) dX3_years_15 (fun hc1 => ?_) (fun hc1 => ?_)
  · have hw := hw.1 hc1
    refine r_aload_n C rfl 0 rfl dX3_years_22 (r_iconst (v := (0 : Int32)) C (by decide) dX3_years_23 ?_)
    refine r_iaload C dX3_years_24 hw (fun v2 hw => ?_)
    exact r_sub C [0, 1, 2, 3, 4, 5, 6, 7, 8] rfl (b_X3_years_25 C LA12 hLA12 _ _ _ _ _ _ _ _ _ _ _ _ hw)
  · have hw := hw.2 hc1
    refine r_iconst (v := (1 : Int32)) C (by decide) dX3_years_18 (r_goto (tgt := 25) C (by decide) dX3_years_19 ?_)
    exact r_sub C [0, 1, 2, 3, 4, 5, 6, 7, 8] rfl (b_X3_years_25 C LA12 hLA12 _ _ _ _ _ _ _ _ _ _ _ _ hw)
theorem b_X3_years_12 {G : gT} {l : Launch} {V : Hp → Nat → Nat → Nat → List (Nat × Value) → List Value → Prop} {Q : Int32 → Hp → Prop} (C : Cx G l V cX3_years 12 RX3 2 33 0 0 (pI Q) none (some .int) [] false) : ∀ (k : Nat) (h : Hp) (x0 : Nat) (x1 : Int32) (x2 : Int32) (x3 : Int32) (x4 : Int32) (x5 : Int32) (x6 : Int32) (x7 : Int32) (x8 : Int32), B_X3_years_12 Q k h x0 x1 x2 x3 x4 x5 x6 x7 x8 → V h 0 0 12 [(0, .ref x0), (1, .int x1), (2, .int x2), (3, .int x3), (4, .int x4), (5, .int x5), (6, .int x6), (7, .int x7), (8, .int x8)] [] := by
  intro k
  induction k with
  | zero =>
    intro h x0 x1 x2 x3 x4 x5 x6 x7 x8 hw
    exact hw.elim
  | succ k ih =>
    intro h x0 x1 x2 x3 x4 x5 x6 x7 x8 hw
    exact s_X3_years_12 C _ (fun h x0 x1 x2 x3 x4 x5 x6 x7 x8 hw => ih h x0 x1 x2 x3 x4 x5 x6 x7 x8 hw) h x0 x1 x2 x3 x4 x5 x6 x7 x8 hw
theorem sg_X3_years : ySg yX3_years 5 = true := by decide +kernel
theorem c_X3_years (G : gT) (l : Launch) (a0 : Nat) (i1 : Int32) (i2 : Int32) (i3 : Int32) (i4 : Int32) (h : Hp) (Q : Int32 → Hp → Prop) (hw : w_X3_years a0 i1 i2 i3 i4 h Q) : Ct G l yX3_years (ws_ yX3_years cX3_years 12 (some .int)) 2 33 0 0 [.ref a0, .int i1, .int i2, .int i3, .int i4] h (pI Q) := by
  refine Ct.of (own := RX3) false (by decide +kernel) rfl (show (_ : Nat) ≤ _ from Nat.le_of_ble_eq_true rfl) (fun z => by cases z) (fun V C => ?_)
  show V h 0 0 0 [(0, .ref a0), (1, .int i1), (2, .int i2), (3, .int i3), (4, .int i4)] []
  unfold w_X3_years at hw
  refine r_iconst (v := (-1 : Int32)) C (by decide) dX3_years_0 (r_istore (L' := [(5, .int (-1 : Int32)), (0, .ref a0), (1, .int i1), (2, .int i2), (3, .int i3), (4, .int i4)]) C (by decide) rfl dX3_years_1 (r_iconst (v := (-1 : Int32)) C (by decide) dX3_years_3 (r_istore (L' := [(6, .int (-1 : Int32)), (5, .int (-1 : Int32)), (0, .ref a0), (1, .int i1), (2, .int i2), (3, .int i3), (4, .int i4)]) C (by decide) rfl dX3_years_4 (r_iconst (v := (0 : Int32)) C (by decide) dX3_years_6 (r_istore (L' := [(7, .int (0 : Int32)), (6, .int (-1 : Int32)), (5, .int (-1 : Int32)), (0, .ref a0), (1, .int i1), (2, .int i2), (3, .int i3), (4, .int i4)]) C (by decide) rfl dX3_years_7 ?_)))))
  refine r_iconst (v := (0 : Int32)) C (by decide) dX3_years_9 (r_istore (L' := [(8, .int (0 : Int32)), (7, .int (0 : Int32)), (6, .int (-1 : Int32)), (5, .int (-1 : Int32)), (0, .ref a0), (1, .int i1), (2, .int i2), (3, .int i3), (4, .int i4)]) C (by decide) rfl dX3_years_10 ?_)
  obtain ⟨k9, hw⟩ := hw
  exact r_sub C [4, 5, 6, 7, 8, 3, 2, 1, 0] rfl (b_X3_years_12 C _ _ _ _ _ _ _ _ _ _ _ hw)
def w_X3_has (i0 : Int32) (i1 : Int32) (h : Hp) (Q : Bool → Hp → Prop) : Prop :=
  Q (if ¬ ((i0 >>> (i1 &&& 31)) &&& (1 : Int32)) = (1 : Int32) then false else true) h
theorem sg_X3_has : ySg yX3_has 2 = true := by decide +kernel
theorem c_X3_has (G : gT) (l : Launch) (i0 : Int32) (i1 : Int32) (h : Hp) (Q : Bool → Hp → Prop) (hw : w_X3_has i0 i1 h Q) : Ct G l yX3_has (ws_ yX3_has cX3_has 2 (some .boolean)) 1 12 0 0 [.int i0, .int i1] h (pZ Q) := by
  refine Ct.of (own := RX3) false (by decide +kernel) rfl (show (_ : Nat) ≤ _ from Nat.le_of_ble_eq_true rfl) (fun z => by cases z) (fun V C => ?_)
  show V h 0 0 0 [(0, .int i0), (1, .int i1)] []
  unfold w_X3_has at hw
  refine r_iload_n C rfl 0 rfl dX3_has_0 (r_iload_n C rfl 1 rfl dX3_has_1 (r_ishr C dX3_has_2 (r_iconst (v := (1 : Int32)) C (by decide) dX3_has_3 (r_iand C dX3_has_4 (r_iconst (v := (1 : Int32)) C (by decide) dX3_has_5 ?_)))))
  have hJ : V h 0 0 14 [] [.int (bI (if ¬ ((i0 >>> (i1 &&& 31)) &&& (1 : Int32)) = (1 : Int32) then false else true))] := by
    exact r_zreturn (x := (if ¬ ((i0 >>> (i1 &&& 31)) &&& (1 : Int32)) = (1 : Int32) then false else true)) C dX3_has_14 (Nat.le_refl _) (Nat.le_refl _) ⟨_, rfl, hw⟩
  refine r_icmp_ne (tgt := 13) C (by decide) dX3_has_6 (fun hc1 => ?_) (fun hc1 => ?_)
  · have hJ2 := hJ
    try simp only [if_pos hc1] at hJ2
    refine r_iconst (v := (0 : Int32)) C (by decide) dX3_has_13 ?_
    exact r_sub C [] rfl hJ2
  · have hJ2 := hJ
    try simp only [if_neg (show ¬ ¬ ((i0 >>> (i1 &&& 31)) &&& (1 : Int32)) = (1 : Int32) from fun z => z hc1)] at hJ2
    refine r_iconst (v := (1 : Int32)) C (by decide) dX3_has_9 (r_goto (tgt := 14) C (by decide) dX3_has_10 ?_)
    exact r_sub C [] rfl hJ2
def S_X3_lowOf_17 (Q : Int32 → Hp → Prop) (LA17 : Hp → Nat → Int32 → Int32 → Int32 → Int32 → Prop) (h : Hp) (x0 : Nat) (x1 : Int32) (x2 : Int32) (x3 : Int32) (x4 : Int32) : Prop :=
  rdI h x0 ((55 : Int32) + x2) (fun v1 => (v1 ≤ x4 → Q x3 h) ∧ (¬ v1 ≤ x4 → rdI h x0 (((65 : Int32) + ((4 : Int32) * x2)) + x4) (fun v3 => rdI h x0 ((201 : Int32) + x1) (fun v4 => w_X3_has v4 x4 h (fun r5 h6 => LA17 h6 x0 x1 x2 (if r5 = false then x3 else (if v3 ≤ x3 then x3 else v3)) (x4 + (1 : Int32)))))))
def B_X3_lowOf_17 (Q : Int32 → Hp → Prop) : Nat → Hp → Nat → Int32 → Int32 → Int32 → Int32 → Prop
  | 0, _, _, _, _, _, _ => False
  | k + 1, h, x0, x1, x2, x3, x4 => S_X3_lowOf_17 Q (B_X3_lowOf_17 Q k) h x0 x1 x2 x3 x4
def w_X3_lowOf (a0 : Nat) (i1 : Int32) (h : Hp) (Q : Int32 → Hp → Prop) : Prop :=
  rdI h a0 ((105 : Int32) + i1) (fun v11 => rdI h a0 ((35 : Int32) + v11) (fun v12 => ∃ k9 : Nat, B_X3_lowOf_17 Q k9 h a0 i1 v11 v12 (0 : Int32)))
theorem s_X3_lowOf_17 {G : gT} {l : Launch} {V : Hp → Nat → Nat → Nat → List (Nat × Value) → List Value → Prop} {Q : Int32 → Hp → Prop} (C : Cx G l V cX3_lowOf 6 RX3 2 33 0 0 (pI Q) none (some .int) [] false) (LA17 : Hp → Nat → Int32 → Int32 → Int32 → Int32 → Prop) (hLA17 : ∀ (h : Hp) (x0 : Nat) (x1 : Int32) (x2 : Int32) (x3 : Int32) (x4 : Int32), LA17 h x0 x1 x2 x3 x4 → V h 0 0 17 [(0, .ref x0), (1, .int x1), (2, .int x2), (3, .int x3), (4, .int x4)] []) (h : Hp) (x0 : Nat) (x1 : Int32) (x2 : Int32) (x3 : Int32) (x4 : Int32) (hw : S_X3_lowOf_17 Q LA17 h x0 x1 x2 x3 x4) : V h 0 0 17 [(0, .ref x0), (1, .int x1), (2, .int x2), (3, .int x3), (4, .int x4)] [] := by
  unfold S_X3_lowOf_17 at hw
  refine r_iload C 4 rfl dX3_lowOf_17 (r_aload_n C rfl 0 rfl dX3_lowOf_19 (r_bipush (v := (55 : Int32)) C (by decide) dX3_lowOf_20 (r_iload_n C rfl 2 rfl dX3_lowOf_22 (r_iadd C dX3_lowOf_23 ?_))))
  refine r_iaload C dX3_lowOf_24 hw (fun v1 hw => ?_)
  refine r_icmp_ge (tgt := 75) C (by decide) dX3_lowOf_25 (fun hc2 => ?_) (fun hc2 => ?_)
  · have hw := hw.1 hc2
    refine r_iload_n C rfl 3 rfl dX3_lowOf_75 ?_
    exact r_ireturn C dX3_lowOf_76 (Nat.le_refl _) (Nat.le_refl _) ⟨_, rfl, hw⟩
  · have hw := hw.2 hc2
    refine r_aload_n C rfl 0 rfl dX3_lowOf_28 (r_bipush (v := (65 : Int32)) C (by decide) dX3_lowOf_29 (r_iconst (v := (4 : Int32)) C (by decide) dX3_lowOf_31 (r_iload_n C rfl 2 rfl dX3_lowOf_32 (r_imul C dX3_lowOf_33 (r_iadd C dX3_lowOf_34 ?_)))))
    refine r_iload C 4 rfl dX3_lowOf_35 (r_iadd C dX3_lowOf_37 ?_)
    refine r_iaload C dX3_lowOf_38 hw (fun v3 hw => ?_)
    refine r_istore (L' := [(5, .int v3), (0, .ref x0), (1, .int x1), (2, .int x2), (3, .int x3), (4, .int x4)]) C (by decide) rfl dX3_lowOf_39 (r_aload_n C rfl 1 rfl dX3_lowOf_41 (r_sipush (v := (201 : Int32)) C (by decide) dX3_lowOf_42 (r_iload_n C rfl 2 rfl dX3_lowOf_45 (r_iadd C dX3_lowOf_46 ?_))))
    refine r_iaload C dX3_lowOf_47 hw (fun v4 hw => ?_)
    refine r_iload C 5 rfl dX3_lowOf_48 ?_
    refine r_callS (rest := []) (As := [.int v4, .int x4]) C sg_X3_has q2364 q2365 q90 q2366 rfl (Nat.le_of_ble_eq_true rfl) dX3_lowOf_50 rfl (Nat.le_refl _) (Nat.le_refl _) (c_X3_has G l v4 x4 h _ hw) (k_Z (fun r5 h6 hw => ?_))
    have hJ : V h6 0 0 68 [(0, .ref x0), (1, .int x1), (2, .int x2), (4, .int x4)] [.int (if r5 = false then x3 else (if v3 ≤ x3 then x3 else v3))] := by
      refine r_istore_n (L' := [(3, .int (if r5 = false then x3 else (if v3 ≤ x3 then x3 else v3))), (0, .ref x0), (1, .int x1), (2, .int x2), (4, .int x4)]) C rfl (by decide) rfl dX3_lowOf_68 (r_iinc (v := x4 + (1 : Int32)) (L' := [(4, .int (x4 + (1 : Int32))), (3, .int (if r5 = false then x3 else (if v3 ≤ x3 then x3 else v3))), (0, .ref x0), (1, .int x1), (2, .int x2)]) C (u := 4) rfl (by rfl) (by decide) rfl dX3_lowOf_69 (r_goto (tgt := 17) C (by decide) dX3_lowOf_72 ?_))
      exact r_sub C [2, 3, 4, 1, 0] rfl (hLA17 _ _ _ _ _ _ hw)
    refine r_if_eq_b (tgt := 67) C (by decide) dX3_lowOf_53 (fun hc7 => ?_) (fun hc7 => ?_)
    · have hJ8 := hJ
      try simp only [if_pos hc7] at hJ8
      refine r_iload_n C rfl 4 rfl dX3_lowOf_67 ?_
      exact r_sub C [1, 2, 3, 5] rfl hJ8
    · have hJ8 := hJ
      try simp only [if_neg (show ¬ r5 = false from by rw [hc7]; decide)] at hJ8
      refine r_iload C 0 rfl dX3_lowOf_56 (r_iload_n C rfl 4 rfl dX3_lowOf_58 ?_)
      refine r_icmp_le (tgt := 67) C (by decide) dX3_lowOf_59 (fun hc9 => ?_) (fun hc9 => ?_)
      · have hJ10 := hJ8
        try simp only [if_pos hc9] at hJ10
        refine r_iload_n C rfl 4 rfl dX3_lowOf_67 ?_
        exact r_sub C [1, 2, 3, 5] rfl hJ10
      · have hJ10 := hJ8
        try simp only [if_neg hc9] at hJ10
        refine r_iload C 0 rfl dX3_lowOf_62 (r_goto (tgt := 68) C (by decide) dX3_lowOf_64 ?_)
        exact r_sub C [1, 2, 3, 5] rfl hJ10
theorem b_X3_lowOf_17 {G : gT} {l : Launch} {V : Hp → Nat → Nat → Nat → List (Nat × Value) → List Value → Prop} {Q : Int32 → Hp → Prop} (C : Cx G l V cX3_lowOf 6 RX3 2 33 0 0 (pI Q) none (some .int) [] false) : ∀ (k : Nat) (h : Hp) (x0 : Nat) (x1 : Int32) (x2 : Int32) (x3 : Int32) (x4 : Int32), B_X3_lowOf_17 Q k h x0 x1 x2 x3 x4 → V h 0 0 17 [(0, .ref x0), (1, .int x1), (2, .int x2), (3, .int x3), (4, .int x4)] [] := by
  intro k
  induction k with
  | zero =>
    intro h x0 x1 x2 x3 x4 hw
    exact hw.elim
  | succ k ih =>
    intro h x0 x1 x2 x3 x4 hw
    exact s_X3_lowOf_17 C _ (fun h x0 x1 x2 x3 x4 hw => ih h x0 x1 x2 x3 x4 hw) h x0 x1 x2 x3 x4 hw
theorem sg_X3_lowOf : ySg yX3_lowOf 2 = true := by decide +kernel
theorem c_X3_lowOf (G : gT) (l : Launch) (a0 : Nat) (i1 : Int32) (h : Hp) (Q : Int32 → Hp → Prop) (hw : w_X3_lowOf a0 i1 h Q) : Ct G l yX3_lowOf (ws_ yX3_lowOf cX3_lowOf 6 (some .int)) 2 33 0 0 [.ref a0, .int i1] h (pI Q) := by
  refine Ct.of (own := RX3) false (by decide +kernel) rfl (show (_ : Nat) ≤ _ from Nat.le_of_ble_eq_true rfl) (fun z => by cases z) (fun V C => ?_)
  show V h 0 0 0 [(0, .ref a0), (1, .int i1)] []
  unfold w_X3_lowOf at hw
  refine r_aload_n C rfl 0 rfl dX3_lowOf_0 (r_bipush (v := (105 : Int32)) C (by decide) dX3_lowOf_1 (r_iload_n C rfl 1 rfl dX3_lowOf_3 (r_iadd C dX3_lowOf_4 ?_)))
  refine r_iaload C dX3_lowOf_5 hw (fun v11 hw => ?_)
  refine r_istore_n (L' := [(2, .int v11), (0, .ref a0), (1, .int i1)]) C rfl (by decide) rfl dX3_lowOf_6 (r_aload_n C rfl 1 rfl dX3_lowOf_7 (r_bipush (v := (35 : Int32)) C (by decide) dX3_lowOf_8 (r_iload_n C rfl 0 rfl dX3_lowOf_10 (r_iadd C dX3_lowOf_11 ?_))))
  refine r_iaload C dX3_lowOf_12 hw (fun v12 hw => ?_)
  refine r_istore_n (L' := [(3, .int v12), (2, .int v11), (0, .ref a0), (1, .int i1)]) C rfl (by decide) rfl dX3_lowOf_13 (r_iconst (v := (0 : Int32)) C (by decide) dX3_lowOf_14 (r_istore (L' := [(4, .int (0 : Int32)), (3, .int v12), (2, .int v11), (0, .ref a0), (1, .int i1)]) C (by decide) rfl dX3_lowOf_15 ?_))
  obtain ⟨k9, hw⟩ := hw
  exact r_sub C [3, 4, 2, 1, 0] rfl (b_X3_lowOf_17 C _ _ _ _ _ _ _ hw)
def S_X3_highOf_17 (Q : Int32 → Hp → Prop) (LA17 : Hp → Nat → Int32 → Int32 → Int32 → Int32 → Prop) (h : Hp) (x0 : Nat) (x1 : Int32) (x2 : Int32) (x3 : Int32) (x4 : Int32) : Prop :=
  rdI h x0 ((55 : Int32) + x2) (fun v1 => (v1 ≤ x4 → Q x3 h) ∧ (¬ v1 ≤ x4 → rdI h x0 (((65 : Int32) + ((4 : Int32) * x2)) + x4) (fun v3 => rdI h x0 ((201 : Int32) + x1) (fun v4 => w_X3_has v4 x4 h (fun r5 h6 => LA17 h6 x0 x1 x2 (if r5 = true then x3 else (if x3 ≤ v3 then x3 else v3)) (x4 + (1 : Int32)))))))
def B_X3_highOf_17 (Q : Int32 → Hp → Prop) : Nat → Hp → Nat → Int32 → Int32 → Int32 → Int32 → Prop
  | 0, _, _, _, _, _, _ => False
  | k + 1, h, x0, x1, x2, x3, x4 => S_X3_highOf_17 Q (B_X3_highOf_17 Q k) h x0 x1 x2 x3 x4
def w_X3_highOf (a0 : Nat) (i1 : Int32) (h : Hp) (Q : Int32 → Hp → Prop) : Prop :=
  rdI h a0 ((105 : Int32) + i1) (fun v11 => rdI h a0 ((45 : Int32) + v11) (fun v12 => ∃ k9 : Nat, B_X3_highOf_17 Q k9 h a0 i1 v11 v12 (0 : Int32)))
theorem s_X3_highOf_17 {G : gT} {l : Launch} {V : Hp → Nat → Nat → Nat → List (Nat × Value) → List Value → Prop} {Q : Int32 → Hp → Prop} (C : Cx G l V cX3_highOf 6 RX3 2 33 0 0 (pI Q) none (some .int) [] false) (LA17 : Hp → Nat → Int32 → Int32 → Int32 → Int32 → Prop) (hLA17 : ∀ (h : Hp) (x0 : Nat) (x1 : Int32) (x2 : Int32) (x3 : Int32) (x4 : Int32), LA17 h x0 x1 x2 x3 x4 → V h 0 0 17 [(0, .ref x0), (1, .int x1), (2, .int x2), (3, .int x3), (4, .int x4)] []) (h : Hp) (x0 : Nat) (x1 : Int32) (x2 : Int32) (x3 : Int32) (x4 : Int32) (hw : S_X3_highOf_17 Q LA17 h x0 x1 x2 x3 x4) : V h 0 0 17 [(0, .ref x0), (1, .int x1), (2, .int x2), (3, .int x3), (4, .int x4)] [] := by
  unfold S_X3_highOf_17 at hw
  refine r_iload C 4 rfl dX3_highOf_17 (r_aload_n C rfl 0 rfl dX3_highOf_19 (r_bipush (v := (55 : Int32)) C (by decide) dX3_highOf_20 (r_iload_n C rfl 2 rfl dX3_highOf_22 (r_iadd C dX3_highOf_23 ?_))))
  refine r_iaload C dX3_highOf_24 hw (fun v1 hw => ?_)
  refine r_icmp_ge (tgt := 75) C (by decide) dX3_highOf_25 (fun hc2 => ?_) (fun hc2 => ?_)
  · have hw := hw.1 hc2
    refine r_iload_n C rfl 3 rfl dX3_highOf_75 ?_
    exact r_ireturn C dX3_highOf_76 (Nat.le_refl _) (Nat.le_refl _) ⟨_, rfl, hw⟩
  · have hw := hw.2 hc2
    refine r_aload_n C rfl 0 rfl dX3_highOf_28 (r_bipush (v := (65 : Int32)) C (by decide) dX3_highOf_29 (r_iconst (v := (4 : Int32)) C (by decide) dX3_highOf_31 (r_iload_n C rfl 2 rfl dX3_highOf_32 (r_imul C dX3_highOf_33 (r_iadd C dX3_highOf_34 ?_)))))
    refine r_iload C 4 rfl dX3_highOf_35 (r_iadd C dX3_highOf_37 ?_)
    refine r_iaload C dX3_highOf_38 hw (fun v3 hw => ?_)
    refine r_istore (L' := [(5, .int v3), (0, .ref x0), (1, .int x1), (2, .int x2), (3, .int x3), (4, .int x4)]) C (by decide) rfl dX3_highOf_39 (r_aload_n C rfl 1 rfl dX3_highOf_41 (r_sipush (v := (201 : Int32)) C (by decide) dX3_highOf_42 (r_iload_n C rfl 2 rfl dX3_highOf_45 (r_iadd C dX3_highOf_46 ?_))))
    refine r_iaload C dX3_highOf_47 hw (fun v4 hw => ?_)
    refine r_iload C 5 rfl dX3_highOf_48 ?_
    refine r_callS (rest := []) (As := [.int v4, .int x4]) C sg_X3_has q2364 q2365 q90 q2366 rfl (Nat.le_of_ble_eq_true rfl) dX3_highOf_50 rfl (Nat.le_refl _) (Nat.le_refl _) (c_X3_has G l v4 x4 h _ hw) (k_Z (fun r5 h6 hw => ?_))
    have hJ : V h6 0 0 68 [(0, .ref x0), (1, .int x1), (2, .int x2), (4, .int x4)] [.int (if r5 = true then x3 else (if x3 ≤ v3 then x3 else v3))] := by
      refine r_istore_n (L' := [(3, .int (if r5 = true then x3 else (if x3 ≤ v3 then x3 else v3))), (0, .ref x0), (1, .int x1), (2, .int x2), (4, .int x4)]) C rfl (by decide) rfl dX3_highOf_68 (r_iinc (v := x4 + (1 : Int32)) (L' := [(4, .int (x4 + (1 : Int32))), (3, .int (if r5 = true then x3 else (if x3 ≤ v3 then x3 else v3))), (0, .ref x0), (1, .int x1), (2, .int x2)]) C (u := 4) rfl (by rfl) (by decide) rfl dX3_highOf_69 (r_goto (tgt := 17) C (by decide) dX3_highOf_72 ?_))
      exact r_sub C [2, 3, 4, 1, 0] rfl (hLA17 _ _ _ _ _ _ hw)
    refine r_if_ne_b (tgt := 67) C (by decide) dX3_highOf_53 (fun hc7 => ?_) (fun hc7 => ?_)
    · have hJ8 := hJ
      try simp only [if_pos hc7] at hJ8
      refine r_iload_n C rfl 4 rfl dX3_highOf_67 ?_
      exact r_sub C [1, 2, 3, 5] rfl hJ8
    · have hJ8 := hJ
      try simp only [if_neg (show ¬ r5 = true from by rw [hc7]; decide)] at hJ8
      refine r_iload C 0 rfl dX3_highOf_56 (r_iload_n C rfl 4 rfl dX3_highOf_58 ?_)
      refine r_icmp_ge (tgt := 67) C (by decide) dX3_highOf_59 (fun hc9 => ?_) (fun hc9 => ?_)
      · have hJ10 := hJ8
        try simp only [if_pos hc9] at hJ10
        refine r_iload_n C rfl 4 rfl dX3_highOf_67 ?_
        exact r_sub C [1, 2, 3, 5] rfl hJ10
      · have hJ10 := hJ8
        try simp only [if_neg hc9] at hJ10
        refine r_iload C 0 rfl dX3_highOf_62 (r_goto (tgt := 68) C (by decide) dX3_highOf_64 ?_)
        exact r_sub C [1, 2, 3, 5] rfl hJ10
theorem b_X3_highOf_17 {G : gT} {l : Launch} {V : Hp → Nat → Nat → Nat → List (Nat × Value) → List Value → Prop} {Q : Int32 → Hp → Prop} (C : Cx G l V cX3_highOf 6 RX3 2 33 0 0 (pI Q) none (some .int) [] false) : ∀ (k : Nat) (h : Hp) (x0 : Nat) (x1 : Int32) (x2 : Int32) (x3 : Int32) (x4 : Int32), B_X3_highOf_17 Q k h x0 x1 x2 x3 x4 → V h 0 0 17 [(0, .ref x0), (1, .int x1), (2, .int x2), (3, .int x3), (4, .int x4)] [] := by
  intro k
  induction k with
  | zero =>
    intro h x0 x1 x2 x3 x4 hw
    exact hw.elim
  | succ k ih =>
    intro h x0 x1 x2 x3 x4 hw
    exact s_X3_highOf_17 C _ (fun h x0 x1 x2 x3 x4 hw => ih h x0 x1 x2 x3 x4 hw) h x0 x1 x2 x3 x4 hw
theorem sg_X3_highOf : ySg yX3_highOf 2 = true := by decide +kernel
theorem c_X3_highOf (G : gT) (l : Launch) (a0 : Nat) (i1 : Int32) (h : Hp) (Q : Int32 → Hp → Prop) (hw : w_X3_highOf a0 i1 h Q) : Ct G l yX3_highOf (ws_ yX3_highOf cX3_highOf 6 (some .int)) 2 33 0 0 [.ref a0, .int i1] h (pI Q) := by
  refine Ct.of (own := RX3) false (by decide +kernel) rfl (show (_ : Nat) ≤ _ from Nat.le_of_ble_eq_true rfl) (fun z => by cases z) (fun V C => ?_)
  show V h 0 0 0 [(0, .ref a0), (1, .int i1)] []
  unfold w_X3_highOf at hw
  refine r_aload_n C rfl 0 rfl dX3_highOf_0 (r_bipush (v := (105 : Int32)) C (by decide) dX3_highOf_1 (r_iload_n C rfl 1 rfl dX3_highOf_3 (r_iadd C dX3_highOf_4 ?_)))
  refine r_iaload C dX3_highOf_5 hw (fun v11 hw => ?_)
  refine r_istore_n (L' := [(2, .int v11), (0, .ref a0), (1, .int i1)]) C rfl (by decide) rfl dX3_highOf_6 (r_aload_n C rfl 1 rfl dX3_highOf_7 (r_bipush (v := (45 : Int32)) C (by decide) dX3_highOf_8 (r_iload_n C rfl 0 rfl dX3_highOf_10 (r_iadd C dX3_highOf_11 ?_))))
  refine r_iaload C dX3_highOf_12 hw (fun v12 hw => ?_)
  refine r_istore_n (L' := [(3, .int v12), (2, .int v11), (0, .ref a0), (1, .int i1)]) C rfl (by decide) rfl dX3_highOf_13 (r_iconst (v := (0 : Int32)) C (by decide) dX3_highOf_14 (r_istore (L' := [(4, .int (0 : Int32)), (3, .int v12), (2, .int v11), (0, .ref a0), (1, .int i1)]) C (by decide) rfl dX3_highOf_15 ?_))
  obtain ⟨k9, hw⟩ := hw
  exact r_sub C [3, 4, 2, 1, 0] rfl (b_X3_highOf_17 C _ _ _ _ _ _ _ hw)
def w_X3_yearsOf (a0 : Nat) (i1 : Int32) (i2 : Int32) (h : Hp) (Q : Int32 → Hp → Prop) : Prop :=
  w_X3_lowOf a0 i1 h (fun r1 h2 => w_X3_highOf a0 i1 h2 (fun r3 h4 => w_X3_maskOf a0 i1 h4 (fun r5 h6 => w_X3_years a0 r1 r3 r5 i2 h6 (fun r7 h8 => Q r7 h8))))
theorem sg_X3_yearsOf : ySg yX3_yearsOf 3 = true := by decide +kernel
theorem c_X3_yearsOf (G : gT) (l : Launch) (a0 : Nat) (i1 : Int32) (i2 : Int32) (h : Hp) (Q : Int32 → Hp → Prop) (hw : w_X3_yearsOf a0 i1 i2 h Q) : Ct G l yX3_yearsOf (ws_ yX3_yearsOf cX3_yearsOf 3 (some .int)) 3 64 0 0 [.ref a0, .int i1, .int i2] h (pI Q) := by
  refine Ct.of (own := RX3) false (by decide +kernel) rfl (show (_ : Nat) ≤ _ from Nat.le_of_ble_eq_true rfl) (fun z => by cases z) (fun V C => ?_)
  show V h 0 0 0 [(0, .ref a0), (1, .int i1), (2, .int i2)] []
  unfold w_X3_yearsOf at hw
  refine r_aload_n C rfl 0 rfl dX3_yearsOf_0 (r_aload_n C rfl 0 rfl dX3_yearsOf_1 (r_iload_n C rfl 1 rfl dX3_yearsOf_2 ?_))
  refine r_callS (rest := [.ref a0]) (As := [.ref a0, .int i1]) C sg_X3_lowOf q2361 q2362 q90 q2363 rfl (Nat.le_of_ble_eq_true rfl) dX3_yearsOf_3 rfl (Nat.le_refl _) (Nat.le_refl _) (c_X3_lowOf G l a0 i1 h _ hw) (k_I (fun r1 h2 hw => ?_))
  refine r_aload_n C rfl 0 rfl dX3_yearsOf_6 (r_iload_n C rfl 1 rfl dX3_yearsOf_7 ?_)
  refine r_callS (rest := [.int r1, .ref a0]) (As := [.ref a0, .int i1]) C sg_X3_highOf q2367 q2368 q90 q2369 rfl (Nat.le_of_ble_eq_true rfl) dX3_yearsOf_8 rfl (Nat.le_refl _) (Nat.le_refl _) (c_X3_highOf G l a0 i1 h2 _ hw) (k_I (fun r3 h4 hw => ?_))
  refine r_aload_n C rfl 0 rfl dX3_yearsOf_11 (r_iload_n C rfl 1 rfl dX3_yearsOf_12 ?_)
  refine r_callS (rest := [.int r3, .int r1, .ref a0]) (As := [.ref a0, .int i1]) C sg_X3_maskOf q2349 q2350 q90 q2351 rfl (Nat.le_of_ble_eq_true rfl) dX3_yearsOf_13 rfl (Nat.le_refl _) (Nat.le_refl _) (c_X3_maskOf G l a0 i1 h4 _ hw) (k_I (fun r5 h6 hw => ?_))
  refine r_iload_n C rfl 2 rfl dX3_yearsOf_16 ?_
  refine r_callS (rest := []) (As := [.ref a0, .int r1, .int r3, .int r5, .int i2]) C sg_X3_years q2352 q2353 q90 q2354 rfl (Nat.le_of_ble_eq_true rfl) dX3_yearsOf_17 rfl (Nat.le_refl _) (Nat.le_refl _) (c_X3_years G l a0 r1 r3 r5 i2 h6 _ hw) (k_I (fun r7 h8 hw => ?_))
  exact r_ireturn C dX3_yearsOf_20 (Nat.le_refl _) (Nat.le_refl _) ⟨_, rfl, hw⟩
def w_X3_alone (a0 : Nat) (i1 : Int32) (h : Hp) (Q : Int32 → Hp → Prop) : Prop :=
  w_X3_isCast a0 i1 h (fun r1 h2 => (r1 = false → w_X3_maskOf a0 i1 h2 (fun r4 h5 => w_X3_years a0 (1000 : Int32) (1999 : Int32) r4 (2 : Int32) h5 (fun r6 h7 => (¬ r6 = 0 → w_X3_yearsOf a0 i1 (2 : Int32) h7 (fun r9 h10 => Q (if ¬ r9 = 0 then (0 : Int32) else (3 : Int32)) h10)) ∧ (r6 = 0 → Q (2 : Int32) h7)))) ∧ (r1 = true → Q (1 : Int32) h2))
theorem sg_X3_alone : ySg yX3_alone 2 = true := by decide +kernel
theorem c_X3_alone (G : gT) (l : Launch) (a0 : Nat) (i1 : Int32) (h : Hp) (Q : Int32 → Hp → Prop) (hw : w_X3_alone a0 i1 h Q) : Ct G l yX3_alone (ws_ yX3_alone cX3_alone 2 (some .int)) 4 86 0 0 [.ref a0, .int i1] h (pI Q) := by
  refine Ct.of (own := RX3) false (by decide +kernel) rfl (show (_ : Nat) ≤ _ from Nat.le_of_ble_eq_true rfl) (fun z => by cases z) (fun V C => ?_)
  show V h 0 0 0 [(0, .ref a0), (1, .int i1)] []
  unfold w_X3_alone at hw
  refine r_aload_n C rfl 0 rfl dX3_alone_0 (r_iload_n C rfl 1 rfl dX3_alone_1 ?_)
  refine r_callS (rest := []) (As := [.ref a0, .int i1]) C sg_X3_isCast q2346 q2347 q90 q2348 rfl (Nat.le_of_ble_eq_true rfl) dX3_alone_2 rfl (Nat.le_refl _) (Nat.le_refl _) (c_X3_isCast G l a0 i1 h _ hw) (k_Z (fun r1 h2 hw => ?_))
  refine r_if_eq_b (tgt := 10) C (by decide) dX3_alone_5 (fun hc3 => ?_) (fun hc3 => ?_)
  · have hw := hw.1 hc3
    refine r_aload_n C rfl 0 rfl dX3_alone_10 (r_sipush (v := (1000 : Int32)) C (by decide) dX3_alone_11 (r_sipush (v := (1999 : Int32)) C (by decide) dX3_alone_14 (r_aload_n C rfl 0 rfl dX3_alone_17 (r_iload_n C rfl 1 rfl dX3_alone_18 ?_))))
    refine r_callS (rest := [.int (1999 : Int32), .int (1000 : Int32), .ref a0]) (As := [.ref a0, .int i1]) C sg_X3_maskOf q2349 q2350 q90 q2351 rfl (Nat.le_of_ble_eq_true rfl) dX3_alone_19 rfl (Nat.le_refl _) (Nat.le_refl _) (c_X3_maskOf G l a0 i1 h2 _ hw) (k_I (fun r4 h5 hw => ?_))
    refine r_iconst (v := (2 : Int32)) C (by decide) dX3_alone_22 ?_
    refine r_callS (rest := []) (As := [.ref a0, .int (1000 : Int32), .int (1999 : Int32), .int r4, .int (2 : Int32)]) C sg_X3_years q2352 q2353 q90 q2354 rfl (Nat.le_of_ble_eq_true rfl) dX3_alone_23 rfl (Nat.le_refl _) (Nat.le_refl _) (c_X3_years G l a0 (1000 : Int32) (1999 : Int32) r4 (2 : Int32) h5 _ hw) (k_I (fun r6 h7 hw => ?_))
    refine r_if_ne (tgt := 31) C (by decide) dX3_alone_26 (fun hc8 => ?_) (fun hc8 => ?_)
    · have hw := hw.1 hc8
      refine r_aload_n C rfl 0 rfl dX3_alone_31 (r_iload_n C rfl 1 rfl dX3_alone_32 (r_iconst (v := (2 : Int32)) C (by decide) dX3_alone_33 ?_))
      refine r_callS (rest := []) (As := [.ref a0, .int i1, .int (2 : Int32)]) C sg_X3_yearsOf q2358 q2359 q90 q2360 rfl (Nat.le_of_ble_eq_true rfl) dX3_alone_34 rfl (Nat.le_refl _) (Nat.le_refl _) (c_X3_yearsOf G l a0 i1 (2 : Int32) h7 _ hw) (k_I (fun r9 h10 hw => ?_))
      have hJ : V h10 0 0 45 [] [.int (if ¬ r9 = 0 then (0 : Int32) else (3 : Int32))] := by
        exact r_ireturn C dX3_alone_45 (Nat.le_refl _) (Nat.le_refl _) ⟨_, rfl, hw⟩
      refine r_if_ne (tgt := 44) C (by decide) dX3_alone_37 (fun hc11 => ?_) (fun hc11 => ?_)
      · have hJ12 := hJ
        try simp only [if_pos hc11] at hJ12
        refine r_iconst (v := (0 : Int32)) C (by decide) dX3_alone_44 ?_
        exact r_sub C [] rfl hJ12
      · have hJ12 := hJ
        try simp only [if_neg (show ¬ ¬ r9 = 0 from fun z => z hc11)] at hJ12
        refine r_iconst (v := (3 : Int32)) C (by decide) dX3_alone_40 (r_goto (tgt := 45) C (by decide) dX3_alone_41 ?_)
        exact r_sub C [] rfl hJ12
    · have hw := hw.2 hc8
      refine r_iconst (v := (2 : Int32)) C (by decide) dX3_alone_29 ?_
      exact r_ireturn C dX3_alone_30 (Nat.le_refl _) (Nat.le_refl _) ⟨_, rfl, hw⟩
  · have hw := hw.2 hc3
    refine r_iconst (v := (1 : Int32)) C (by decide) dX3_alone_8 ?_
    exact r_ireturn C dX3_alone_9 (Nat.le_refl _) (Nat.le_refl _) ⟨_, rfl, hw⟩
def B_X3_gather_147 (Q : Hp → Prop) (LA27 : Hp → Nat → Nat → Int32 → Int32 → Int32 → Prop) (h : Hp) (x0 : Nat) (x1 : Nat) (x2 : Int32) (x3 : Int32) (x4 : Int32) : Prop :=
  LA27 h x0 x1 x2 x3 (x4 + (1 : Int32))
def B_X3_gather_119 (Q : Hp → Prop) (LA27 : Hp → Nat → Nat → Int32 → Int32 → Int32 → Prop) (h : Hp) (x0 : Nat) (x1 : Nat) (x2 : Int32) (x3 : Int32) (x4 : Int32) (s0 : Nat) (s1 : Int32) : Prop :=
  pf h s0 2 14 (.int s1) (fun h24 => gfI h24 x0 2 15 (fun v25 => w_X3_maskOf x1 x4 h24 (fun r26 h27 => pf h27 x0 2 15 (.int (v25 ||| r26)) (fun h28 => gfI h28 x0 2 16 (fun v29 => pf h28 x0 2 16 (.int (v29 + (1 : Int32))) (fun h30 => B_X3_gather_147 Q LA27 h30 x0 x1 x2 x3 x4))))))
def B_X3_gather_89 (Q : Hp → Prop) (LA27 : Hp → Nat → Nat → Int32 → Int32 → Int32 → Prop) (h : Hp) (x0 : Nat) (x1 : Nat) (x2 : Int32) (x3 : Int32) (x4 : Int32) (s0 : Nat) (s1 : Int32) : Prop :=
  pf h s0 2 13 (.int s1) (fun h16 => w_X3_highOf x1 x4 h16 (fun r17 h18 => gfI h18 x0 2 14 (fun v19 => (v19 ≤ r17 → gfI h18 x0 2 14 (fun v21 => B_X3_gather_119 Q LA27 h18 x0 x1 x2 x3 x4 x0 v21)) ∧ (¬ v19 ≤ r17 → w_X3_highOf x1 x4 h18 (fun r22 h23 => B_X3_gather_119 Q LA27 h23 x0 x1 x2 x3 x4 x0 r22)))))
def S_X3_gather_27 (Q : Hp → Prop) (LA27 : Hp → Nat → Nat → Int32 → Int32 → Int32 → Prop) (h : Hp) (x0 : Nat) (x1 : Nat) (x2 : Int32) (x3 : Int32) (x4 : Int32) : Prop :=
  rdI h x1 (2 : Int32) (fun v1 => (v1 ≤ x4 → Q h) ∧ (¬ v1 ≤ x4 → rdI h x1 ((225 : Int32) + x4) (fun v3 => (¬ v3 = x2 → B_X3_gather_147 Q LA27 h x0 x1 x2 x3 x4) ∧ (v3 = x2 → (x4 = x3 → B_X3_gather_147 Q LA27 h x0 x1 x2 x3 x4) ∧ (¬ x4 = x3 → w_X3_alone x1 x4 h (fun r6 h7 => (¬ r6 = 0 → B_X3_gather_147 Q LA27 h7 x0 x1 x2 x3 x4) ∧ (r6 = 0 → w_X3_lowOf x1 x4 h7 (fun r9 h10 => gfI h10 x0 2 13 (fun v11 => (r9 ≤ v11 → gfI h10 x0 2 13 (fun v13 => B_X3_gather_89 Q LA27 h10 x0 x1 x2 x3 x4 x0 v13)) ∧ (¬ r9 ≤ v11 → w_X3_lowOf x1 x4 h10 (fun r14 h15 => B_X3_gather_89 Q LA27 h15 x0 x1 x2 x3 x4 x0 r14)))))))))))
def B_X3_gather_27 (Q : Hp → Prop) : Nat → Hp → Nat → Nat → Int32 → Int32 → Int32 → Prop
  | 0, _, _, _, _, _, _ => False
  | k + 1, h, x0, x1, x2, x3, x4 => S_X3_gather_27 Q (B_X3_gather_27 Q k) h x0 x1 x2 x3 x4
def w_X3_gather (a0 : Nat) (a1 : Nat) (i2 : Int32) (i3 : Int32) (h : Hp) (Q : Hp → Prop) : Prop :=
  pf h a0 2 13 (.int (1000 : Int32)) (fun h31 => pf h31 a0 2 14 (.int (1999 : Int32)) (fun h32 => pf h32 a0 2 15 (.int (0 : Int32)) (fun h33 => pf h33 a0 2 16 (.int (0 : Int32)) (fun h34 => ∃ k9 : Nat, B_X3_gather_27 Q k9 h34 a0 a1 i2 i3 (0 : Int32)))))
theorem b_X3_gather_147 {G : gT} {l : Launch} {V : Hp → Nat → Nat → Nat → List (Nat × Value) → List Value → Prop} {Q : Hp → Prop} (C : Cx G l V cX3_gather 5 RX3 5 107 0 0 (pV Q) none (none) [] false) (LA27 : Hp → Nat → Nat → Int32 → Int32 → Int32 → Prop) (hLA27 : ∀ (h : Hp) (x0 : Nat) (x1 : Nat) (x2 : Int32) (x3 : Int32) (x4 : Int32), LA27 h x0 x1 x2 x3 x4 → V h 0 0 27 [(0, .ref x0), (1, .ref x1), (2, .int x2), (3, .int x3), (4, .int x4)] []) (h : Hp) (x0 : Nat) (x1 : Nat) (x2 : Int32) (x3 : Int32) (x4 : Int32) (hw : B_X3_gather_147 Q LA27 h x0 x1 x2 x3 x4) : V h 0 0 147 [(0, .ref x0), (1, .ref x1), (2, .int x2), (3, .int x3), (4, .int x4)] [] := by
  unfold B_X3_gather_147 at hw
  refine r_iinc (v := x4 + (1 : Int32)) (L' := [(4, .int (x4 + (1 : Int32))), (0, .ref x0), (1, .ref x1), (2, .int x2), (3, .int x3)]) C (u := 4) rfl (by rfl) (by decide) rfl dX3_gather_147 (r_goto (tgt := 27) C (by decide) dX3_gather_150 ?_)
  exact r_sub C [1, 2, 3, 4, 0] rfl (hLA27 _ _ _ _ _ _ hw)
theorem b_X3_gather_119 {G : gT} {l : Launch} {V : Hp → Nat → Nat → Nat → List (Nat × Value) → List Value → Prop} {Q : Hp → Prop} (C : Cx G l V cX3_gather 5 RX3 5 107 0 0 (pV Q) none (none) [] false) (LA27 : Hp → Nat → Nat → Int32 → Int32 → Int32 → Prop) (hLA27 : ∀ (h : Hp) (x0 : Nat) (x1 : Nat) (x2 : Int32) (x3 : Int32) (x4 : Int32), LA27 h x0 x1 x2 x3 x4 → V h 0 0 27 [(0, .ref x0), (1, .ref x1), (2, .int x2), (3, .int x3), (4, .int x4)] []) (h : Hp) (x0 : Nat) (x1 : Nat) (x2 : Int32) (x3 : Int32) (x4 : Int32) (s0 : Nat) (s1 : Int32) (hw : B_X3_gather_119 Q LA27 h x0 x1 x2 x3 x4 s0 s1) : V h 0 0 119 [(0, .ref x0), (1, .ref x1), (2, .int x2), (3, .int x3), (4, .int x4)] [.int s1, .ref s0] := by
  unfold B_X3_gather_119 at hw
  refine r_pf (k := 14) (v := .int s1) C kX3 (by decide) (Or.inl q2169) (Or.inl rfl) (Or.inl rfl) rfl rfl dX3_gather_119 hw (fun h24 hw => ?_)
  refine r_aload_n C rfl 0 rfl dX3_gather_122 (r_dup C rfl dX3_gather_123 ?_)
  refine r_gfI (k := 15) C kX3 (by decide) (Or.inl q2170) (Or.inl rfl) dX3_gather_124 hw (fun v25 hw => ?_)
  refine r_aload_n C rfl 1 rfl dX3_gather_127 (r_iload C 4 rfl dX3_gather_128 ?_)
  refine r_callS (rest := [.int v25, .ref x0]) (As := [.ref x1, .int x4]) C sg_X3_maskOf q2349 q2350 q90 q2351 rfl (Nat.le_of_ble_eq_true rfl) dX3_gather_130 rfl (Nat.le_refl _) (Nat.le_refl _) (c_X3_maskOf G l x1 x4 h24 _ hw) (k_I (fun r26 h27 hw => ?_))
  refine r_ior C dX3_gather_133 ?_
  refine r_pf (k := 15) (v := .int (v25 ||| r26)) C kX3 (by decide) (Or.inl q2170) (Or.inl rfl) (Or.inl rfl) rfl rfl dX3_gather_134 hw (fun h28 hw => ?_)
  refine r_aload_n C rfl 0 rfl dX3_gather_137 (r_dup C rfl dX3_gather_138 ?_)
  refine r_gfI (k := 16) C kX3 (by decide) (Or.inl q2171) (Or.inl rfl) dX3_gather_139 hw (fun v29 hw => ?_)
  refine r_iconst (v := (1 : Int32)) C (by decide) dX3_gather_142 (r_iadd C dX3_gather_143 ?_)
  refine r_pf (k := 16) (v := .int (v29 + (1 : Int32))) C kX3 (by decide) (Or.inl q2171) (Or.inl rfl) (Or.inl rfl) rfl rfl dX3_gather_144 hw (fun h30 hw => ?_)
  exact r_sub C [0, 1, 2, 3, 4] rfl (b_X3_gather_147 C LA27 hLA27 _ _ _ _ _ _ hw)
theorem b_X3_gather_89 {G : gT} {l : Launch} {V : Hp → Nat → Nat → Nat → List (Nat × Value) → List Value → Prop} {Q : Hp → Prop} (C : Cx G l V cX3_gather 5 RX3 5 107 0 0 (pV Q) none (none) [] false) (LA27 : Hp → Nat → Nat → Int32 → Int32 → Int32 → Prop) (hLA27 : ∀ (h : Hp) (x0 : Nat) (x1 : Nat) (x2 : Int32) (x3 : Int32) (x4 : Int32), LA27 h x0 x1 x2 x3 x4 → V h 0 0 27 [(0, .ref x0), (1, .ref x1), (2, .int x2), (3, .int x3), (4, .int x4)] []) (h : Hp) (x0 : Nat) (x1 : Nat) (x2 : Int32) (x3 : Int32) (x4 : Int32) (s0 : Nat) (s1 : Int32) (hw : B_X3_gather_89 Q LA27 h x0 x1 x2 x3 x4 s0 s1) : V h 0 0 89 [(0, .ref x0), (1, .ref x1), (2, .int x2), (3, .int x3), (4, .int x4)] [.int s1, .ref s0] := by
  unfold B_X3_gather_89 at hw
  refine r_pf (k := 13) (v := .int s1) C kX3 (by decide) (Or.inl q2168) (Or.inl rfl) (Or.inl rfl) rfl rfl dX3_gather_89 hw (fun h16 hw => ?_)
  refine r_aload_n C rfl 0 rfl dX3_gather_92 (r_aload_n C rfl 1 rfl dX3_gather_93 (r_iload C 4 rfl dX3_gather_94 ?_))
  refine r_callS (rest := [.ref x0]) (As := [.ref x1, .int x4]) C sg_X3_highOf q2367 q2368 q90 q2369 rfl (Nat.le_of_ble_eq_true rfl) dX3_gather_96 rfl (Nat.le_refl _) (Nat.le_refl _) (c_X3_highOf G l x1 x4 h16 _ hw) (k_I (fun r17 h18 hw => ?_))
  refine r_aload_n C rfl 0 rfl dX3_gather_99 ?_
  refine r_gfI (k := 14) C kX3 (by decide) (Or.inl q2169) (Or.inl rfl) dX3_gather_100 hw (fun v19 hw => ?_)
  refine r_icmp_ge (tgt := 115) C (by decide) dX3_gather_103 (fun hc20 => ?_) (fun hc20 => ?_)
  · have hw := hw.1 hc20
    refine r_aload_n C rfl 0 rfl dX3_gather_115 ?_
    refine r_gfI (k := 14) C kX3 (by decide) (Or.inl q2169) (Or.inl rfl) dX3_gather_116 hw (fun v21 hw => ?_)
    exact r_sub C [0, 1, 2, 3, 4] rfl (b_X3_gather_119 C LA27 hLA27 _ _ _ _ _ _ _ _ hw)
  · have hw := hw.2 hc20
    refine r_aload_n C rfl 1 rfl dX3_gather_106 (r_iload C 4 rfl dX3_gather_107 ?_)
    refine r_callS (rest := [.ref x0]) (As := [.ref x1, .int x4]) C sg_X3_highOf q2367 q2368 q90 q2369 rfl (Nat.le_of_ble_eq_true rfl) dX3_gather_109 rfl (Nat.le_refl _) (Nat.le_refl _) (c_X3_highOf G l x1 x4 h18 _ hw) (k_I (fun r22 h23 hw => ?_))
    refine r_goto (tgt := 119) C (by decide) dX3_gather_112 ?_
    exact r_sub C [0, 1, 2, 3, 4] rfl (b_X3_gather_119 C LA27 hLA27 _ _ _ _ _ _ _ _ hw)
theorem s_X3_gather_27 {G : gT} {l : Launch} {V : Hp → Nat → Nat → Nat → List (Nat × Value) → List Value → Prop} {Q : Hp → Prop} (C : Cx G l V cX3_gather 5 RX3 5 107 0 0 (pV Q) none (none) [] false) (LA27 : Hp → Nat → Nat → Int32 → Int32 → Int32 → Prop) (hLA27 : ∀ (h : Hp) (x0 : Nat) (x1 : Nat) (x2 : Int32) (x3 : Int32) (x4 : Int32), LA27 h x0 x1 x2 x3 x4 → V h 0 0 27 [(0, .ref x0), (1, .ref x1), (2, .int x2), (3, .int x3), (4, .int x4)] []) (h : Hp) (x0 : Nat) (x1 : Nat) (x2 : Int32) (x3 : Int32) (x4 : Int32) (hw : S_X3_gather_27 Q LA27 h x0 x1 x2 x3 x4) : V h 0 0 27 [(0, .ref x0), (1, .ref x1), (2, .int x2), (3, .int x3), (4, .int x4)] [] := by
  unfold S_X3_gather_27 at hw
  refine r_iload C 4 rfl dX3_gather_27 (r_aload_n C rfl 1 rfl dX3_gather_29 (r_iconst (v := (2 : Int32)) C (by decide) dX3_gather_30 ?_))
  refine r_iaload C dX3_gather_31 hw (fun v1 hw => ?_)
  refine r_icmp_ge (tgt := 153) C (by decide) dX3_gather_32 (fun hc2 => ?_) (fun hc2 => ?_)
  · have hw := hw.1 hc2
    exact r_return C dX3_gather_153 (Nat.le_refl _) (Nat.le_refl _) ⟨rfl, hw⟩
  · have hw := hw.2 hc2
    refine r_aload_n C rfl 1 rfl dX3_gather_35 (r_sipush (v := (225 : Int32)) C (by decide) dX3_gather_36 (r_iload C 4 rfl dX3_gather_39 (r_iadd C dX3_gather_41 ?_)))
    refine r_iaload C dX3_gather_42 hw (fun v3 hw => ?_)
    refine r_iload_n C rfl 2 rfl dX3_gather_43 ?_
    refine r_icmp_ne (tgt := 147) C (by decide) dX3_gather_44 (fun hc4 => ?_) (fun hc4 => ?_)
    · have hw := hw.1 hc4
      exact r_sub C [0, 1, 2, 3, 4] rfl (b_X3_gather_147 C LA27 hLA27 _ _ _ _ _ _ hw)
    · have hw := hw.2 hc4
      refine r_iload C 4 rfl dX3_gather_47 (r_iload_n C rfl 3 rfl dX3_gather_49 ?_)
      refine r_icmp_eq (tgt := 147) C (by decide) dX3_gather_50 (fun hc5 => ?_) (fun hc5 => ?_)
      · have hw := hw.1 hc5
        exact r_sub C [0, 1, 2, 3, 4] rfl (b_X3_gather_147 C LA27 hLA27 _ _ _ _ _ _ hw)
      · have hw := hw.2 hc5
        refine r_aload_n C rfl 1 rfl dX3_gather_53 (r_iload C 4 rfl dX3_gather_54 ?_)
        refine r_callS (rest := []) (As := [.ref x1, .int x4]) C sg_X3_alone q2343 q2344 q90 q2345 rfl (Nat.le_of_ble_eq_true rfl) dX3_gather_56 rfl (Nat.le_refl _) (Nat.le_refl _) (c_X3_alone G l x1 x4 h _ hw) (k_I (fun r6 h7 hw => ?_))
        refine r_if_ne (tgt := 147) C (by decide) dX3_gather_59 (fun hc8 => ?_) (fun hc8 => ?_)
        · have hw := hw.1 hc8
          exact r_sub C [0, 1, 2, 3, 4] rfl (b_X3_gather_147 C LA27 hLA27 _ _ _ _ _ _ hw)
        · have hw := hw.2 hc8
          refine r_aload_n C rfl 0 rfl dX3_gather_62 (r_aload_n C rfl 1 rfl dX3_gather_63 (r_iload C 4 rfl dX3_gather_64 ?_))
          refine r_callS (rest := [.ref x0]) (As := [.ref x1, .int x4]) C sg_X3_lowOf q2361 q2362 q90 q2363 rfl (Nat.le_of_ble_eq_true rfl) dX3_gather_66 rfl (Nat.le_refl _) (Nat.le_refl _) (c_X3_lowOf G l x1 x4 h7 _ hw) (k_I (fun r9 h10 hw => ?_))
          refine r_aload_n C rfl 0 rfl dX3_gather_69 ?_
          refine r_gfI (k := 13) C kX3 (by decide) (Or.inl q2168) (Or.inl rfl) dX3_gather_70 hw (fun v11 hw => ?_)
          refine r_icmp_le (tgt := 85) C (by decide) dX3_gather_73 (fun hc12 => ?_) (fun hc12 => ?_)
          · have hw := hw.1 hc12
            refine r_aload_n C rfl 0 rfl dX3_gather_85 ?_
            refine r_gfI (k := 13) C kX3 (by decide) (Or.inl q2168) (Or.inl rfl) dX3_gather_86 hw (fun v13 hw => ?_)
            exact r_sub C [0, 1, 2, 3, 4] rfl (b_X3_gather_89 C LA27 hLA27 _ _ _ _ _ _ _ _ hw)
          · have hw := hw.2 hc12
            refine r_aload_n C rfl 1 rfl dX3_gather_76 (r_iload C 4 rfl dX3_gather_77 ?_)
            refine r_callS (rest := [.ref x0]) (As := [.ref x1, .int x4]) C sg_X3_lowOf q2361 q2362 q90 q2363 rfl (Nat.le_of_ble_eq_true rfl) dX3_gather_79 rfl (Nat.le_refl _) (Nat.le_refl _) (c_X3_lowOf G l x1 x4 h10 _ hw) (k_I (fun r14 h15 hw => ?_))
            refine r_goto (tgt := 89) C (by decide) dX3_gather_82 ?_
            exact r_sub C [0, 1, 2, 3, 4] rfl (b_X3_gather_89 C LA27 hLA27 _ _ _ _ _ _ _ _ hw)
theorem b_X3_gather_27 {G : gT} {l : Launch} {V : Hp → Nat → Nat → Nat → List (Nat × Value) → List Value → Prop} {Q : Hp → Prop} (C : Cx G l V cX3_gather 5 RX3 5 107 0 0 (pV Q) none (none) [] false) : ∀ (k : Nat) (h : Hp) (x0 : Nat) (x1 : Nat) (x2 : Int32) (x3 : Int32) (x4 : Int32), B_X3_gather_27 Q k h x0 x1 x2 x3 x4 → V h 0 0 27 [(0, .ref x0), (1, .ref x1), (2, .int x2), (3, .int x3), (4, .int x4)] [] := by
  intro k
  induction k with
  | zero =>
    intro h x0 x1 x2 x3 x4 hw
    exact hw.elim
  | succ k ih =>
    intro h x0 x1 x2 x3 x4 hw
    exact s_X3_gather_27 C _ (fun h x0 x1 x2 x3 x4 hw => ih h x0 x1 x2 x3 x4 hw) h x0 x1 x2 x3 x4 hw
theorem sg_X3_gather : ySg yX3_gather 3 = true := by decide +kernel
theorem c_X3_gather (G : gT) (l : Launch) (a0 : Nat) (a1 : Nat) (i2 : Int32) (i3 : Int32) (h : Hp) (Q : Hp → Prop) (hw : w_X3_gather a0 a1 i2 i3 h Q) : Ct G l yX3_gather (ws_ yX3_gather cX3_gather 5 (none)) 5 107 0 0 [.ref a0, .ref a1, .int i2, .int i3] h (pV Q) := by
  refine Ct.of (own := RX3) false (by decide +kernel) rfl (show (_ : Nat) ≤ _ from Nat.le_of_ble_eq_true rfl) (fun z => by cases z) (fun V C => ?_)
  show V h 0 0 0 [(0, .ref a0), (1, .ref a1), (2, .int i2), (3, .int i3)] []
  unfold w_X3_gather at hw
  refine r_aload_n C rfl 0 rfl dX3_gather_0 (r_sipush (v := (1000 : Int32)) C (by decide) dX3_gather_1 ?_)
  refine r_pf (k := 13) (v := .int (1000 : Int32)) C kX3 (by decide) (Or.inl q2168) (Or.inl rfl) (Or.inl rfl) rfl rfl dX3_gather_4 hw (fun h31 hw => ?_)
  refine r_aload_n C rfl 0 rfl dX3_gather_7 (r_sipush (v := (1999 : Int32)) C (by decide) dX3_gather_8 ?_)
  refine r_pf (k := 14) (v := .int (1999 : Int32)) C kX3 (by decide) (Or.inl q2169) (Or.inl rfl) (Or.inl rfl) rfl rfl dX3_gather_11 hw (fun h32 hw => ?_)
  refine r_aload_n C rfl 0 rfl dX3_gather_14 (r_iconst (v := (0 : Int32)) C (by decide) dX3_gather_15 ?_)
  refine r_pf (k := 15) (v := .int (0 : Int32)) C kX3 (by decide) (Or.inl q2170) (Or.inl rfl) (Or.inl rfl) rfl rfl dX3_gather_16 hw (fun h33 hw => ?_)
  refine r_aload_n C rfl 0 rfl dX3_gather_19 (r_iconst (v := (0 : Int32)) C (by decide) dX3_gather_20 ?_)
  refine r_pf (k := 16) (v := .int (0 : Int32)) C kX3 (by decide) (Or.inl q2171) (Or.inl rfl) (Or.inl rfl) rfl rfl dX3_gather_21 hw (fun h34 hw => ?_)
  refine r_iconst (v := (0 : Int32)) C (by decide) dX3_gather_24 (r_istore (L' := [(4, .int (0 : Int32)), (0, .ref a0), (1, .ref a1), (2, .int i2), (3, .int i3)]) C (by decide) rfl dX3_gather_25 ?_)
  obtain ⟨k9, hw⟩ := hw
  exact r_sub C [1, 2, 3, 4, 0] rfl (b_X3_gather_27 C _ _ _ _ _ _ _ hw)
def w_X3_ofCharter (a0 : Nat) (a1 : Nat) (i2 : Int32) (i3 : Int32) (i4 : Int32) (h : Hp) (Q : Int32 → Hp → Prop) : Prop :=
  hasC h a0 2 ∧ (w_X3_gather a0 a1 i2 i3 h (fun h3 => gfI h3 a0 2 16 (fun v4 => (¬ v4 = 0 → gfI h3 a0 2 13 (fun v6 => gfI h3 a0 2 14 (fun v7 => gfI h3 a0 2 15 (fun v8 => w_X3_years a1 v6 v7 v8 i4 h3 (fun r9 h10 => Q r9 h10))))) ∧ (v4 = 0 → Q (if ¬ i4 = (2 : Int32) then (-1 : Int32) else (0 : Int32)) h3))))
theorem sg_X3_ofCharter : ySg yX3_ofCharter 4 = true := by decide +kernel
theorem c_X3_ofCharter (G : gT) (l : Launch) (a0 : Nat) (a1 : Nat) (i2 : Int32) (i3 : Int32) (i4 : Int32) (h : Hp) (Q : Int32 → Hp → Prop) (hw : w_X3_ofCharter a0 a1 i2 i3 i4 h Q) : Ct G l yX3_ofCharter (ws_ yX3_ofCharter cX3_ofCharter 5 (some .int)) 6 131 0 0 [.ref a0, .ref a1, .int i2, .int i3, .int i4] h (pI Q) := by
  refine Ct.of (own := RX3) false (by decide +kernel) rfl (show (_ : Nat) ≤ _ from Nat.le_of_ble_eq_true rfl) (fun z => by cases z) (fun V C => ?_)
  show V h 0 0 0 [(0, .ref a0), (1, .ref a1), (2, .int i2), (3, .int i3), (4, .int i4)] []
  unfold w_X3_ofCharter at hw
  refine r_aload_n C rfl 0 rfl dX3_ofCharter_0 (r_aload_n C rfl 1 rfl dX3_ofCharter_1 (r_iload_n C rfl 2 rfl dX3_ofCharter_2 (r_iload_n C rfl 3 rfl dX3_ofCharter_3 ?_)))
  obtain ⟨hq1, hw⟩ := hw
  refine r_callV (ci := 2) (rest := []) (As := [.ref a1, .int i2, .int i3]) C sg_X3_gather rfl rfl q2374 q2376 qs56 q90 q2377 rfl (Nat.le_of_ble_eq_true rfl) dX3_ofCharter_4 rfl hq1 (Nat.le_refl _) (Nat.le_refl _) (c_X3_gather G l a0 a1 i2 i3 h _ hw) (k_V (fun h3 hw => ?_))
  refine r_aload_n C rfl 0 rfl dX3_ofCharter_7 ?_
  refine r_gfI (k := 16) C kX3 (by decide) (Or.inl q2171) (Or.inl rfl) dX3_ofCharter_8 hw (fun v4 hw => ?_)
  refine r_if_ne (tgt := 26) C (by decide) dX3_ofCharter_11 (fun hc5 => ?_) (fun hc5 => ?_)
  · have hw := hw.1 hc5
    refine r_aload_n C rfl 1 rfl dX3_ofCharter_26 (r_aload_n C rfl 0 rfl dX3_ofCharter_27 ?_)
    refine r_gfI (k := 13) C kX3 (by decide) (Or.inl q2168) (Or.inl rfl) dX3_ofCharter_28 hw (fun v6 hw => ?_)
    refine r_aload_n C rfl 0 rfl dX3_ofCharter_31 ?_
    refine r_gfI (k := 14) C kX3 (by decide) (Or.inl q2169) (Or.inl rfl) dX3_ofCharter_32 hw (fun v7 hw => ?_)
    refine r_aload_n C rfl 0 rfl dX3_ofCharter_35 ?_
    refine r_gfI (k := 15) C kX3 (by decide) (Or.inl q2170) (Or.inl rfl) dX3_ofCharter_36 hw (fun v8 hw => ?_)
    refine r_iload C 4 rfl dX3_ofCharter_39 ?_
    refine r_callS (rest := []) (As := [.ref a1, .int v6, .int v7, .int v8, .int i4]) C sg_X3_years q2352 q2353 q90 q2354 rfl (Nat.le_of_ble_eq_true rfl) dX3_ofCharter_41 rfl (Nat.le_refl _) (Nat.le_refl _) (c_X3_years G l a1 v6 v7 v8 i4 h3 _ hw) (k_I (fun r9 h10 hw => ?_))
    exact r_ireturn C dX3_ofCharter_44 (Nat.le_refl _) (Nat.le_refl _) ⟨_, rfl, hw⟩
  · have hw := hw.2 hc5
    refine r_iload C 4 rfl dX3_ofCharter_14 (r_iconst (v := (2 : Int32)) C (by decide) dX3_ofCharter_16 ?_)
    have hJ : V h3 0 0 25 [] [.int (if ¬ i4 = (2 : Int32) then (-1 : Int32) else (0 : Int32))] := by
      exact r_ireturn C dX3_ofCharter_25 (Nat.le_refl _) (Nat.le_refl _) ⟨_, rfl, hw⟩
    refine r_icmp_ne (tgt := 24) C (by decide) dX3_ofCharter_17 (fun hc11 => ?_) (fun hc11 => ?_)
    · have hJ12 := hJ
      try simp only [if_pos hc11] at hJ12
      refine r_iconst (v := (-1 : Int32)) C (by decide) dX3_ofCharter_24 ?_
      exact r_sub C [] rfl hJ12
    · have hJ12 := hJ
      try simp only [if_neg (show ¬ ¬ i4 = (2 : Int32) from fun z => z hc11)] at hJ12
      refine r_iconst (v := (0 : Int32)) C (by decide) dX3_ofCharter_20 (r_goto (tgt := 25) C (by decide) dX3_ofCharter_21 ?_)
      exact r_sub C [] rfl hJ12
def w_X3_fake (a0 : Nat) (a1 : Nat) (i2 : Int32) (h : Hp) (Q : Int32 → Hp → Prop) : Prop :=
  w_X3_alone a1 i2 h (fun r1 h2 => (¬ r1 = 0 → Q r1 h2) ∧ (r1 = 0 → rdI h2 a1 ((225 : Int32) + i2) (fun v4 => (v4 = (-1 : Int32) → Q r1 h2) ∧ (¬ v4 = (-1 : Int32) → rdI h2 a1 ((225 : Int32) + i2) (fun v6 => hasC h2 a0 2 ∧ (w_X3_ofCharter a0 a1 v6 (-1 : Int32) (2 : Int32) h2 (fun r8 h9 => (¬ r8 = 0 → Q r1 h9) ∧ (r8 = 0 → Q (4 : Int32) h9))))))))
theorem sg_X3_fake : ySg yX3_fake 2 = true := by decide +kernel
theorem c_X3_fake (G : gT) (l : Launch) (a0 : Nat) (a1 : Nat) (i2 : Int32) (h : Hp) (Q : Int32 → Hp → Prop) (hw : w_X3_fake a0 a1 i2 h Q) : Ct G l yX3_fake (ws_ yX3_fake cX3_fake 4 (some .int)) 7 155 0 0 [.ref a0, .ref a1, .int i2] h (pI Q) := by
  refine Ct.of (own := RX3) false (by decide +kernel) rfl (show (_ : Nat) ≤ _ from Nat.le_of_ble_eq_true rfl) (fun z => by cases z) (fun V C => ?_)
  show V h 0 0 0 [(0, .ref a0), (1, .ref a1), (2, .int i2)] []
  unfold w_X3_fake at hw
  refine r_aload_n C rfl 1 rfl dX3_fake_0 (r_iload_n C rfl 2 rfl dX3_fake_1 ?_)
  refine r_callS (rest := []) (As := [.ref a1, .int i2]) C sg_X3_alone q2343 q2344 q90 q2345 rfl (Nat.le_of_ble_eq_true rfl) dX3_fake_2 rfl (Nat.le_refl _) (Nat.le_refl _) (c_X3_alone G l a1 i2 h _ hw) (k_I (fun r1 h2 hw => ?_))
  refine r_istore_n (L' := [(3, .int r1), (0, .ref a0), (1, .ref a1), (2, .int i2)]) C rfl (by decide) rfl dX3_fake_5 (r_iload_n C rfl 0 rfl dX3_fake_6 ?_)
  refine r_if_ne (tgt := 40) C (by decide) dX3_fake_7 (fun hc3 => ?_) (fun hc3 => ?_)
  · have hw := hw.1 hc3
    refine r_iload_n C rfl 0 rfl dX3_fake_40 ?_
    exact r_ireturn C dX3_fake_41 (Nat.le_refl _) (Nat.le_refl _) ⟨_, rfl, hw⟩
  · have hw := hw.2 hc3
    refine r_aload_n C rfl 2 rfl dX3_fake_10 (r_sipush (v := (225 : Int32)) C (by decide) dX3_fake_11 (r_iload_n C rfl 3 rfl dX3_fake_14 (r_iadd C dX3_fake_15 ?_)))
    refine r_iaload C dX3_fake_16 hw (fun v4 hw => ?_)
    refine r_iconst (v := (-1 : Int32)) C (by decide) dX3_fake_17 ?_
    refine r_icmp_eq (tgt := 40) C (by decide) dX3_fake_18 (fun hc5 => ?_) (fun hc5 => ?_)
    · have hw := hw.1 hc5
      refine r_iload_n C rfl 0 rfl dX3_fake_40 ?_
      exact r_ireturn C dX3_fake_41 (Nat.le_refl _) (Nat.le_refl _) ⟨_, rfl, hw⟩
    · have hw := hw.2 hc5
      refine r_aload_n C rfl 1 rfl dX3_fake_21 (r_aload_n C rfl 2 rfl dX3_fake_22 (r_aload_n C rfl 2 rfl dX3_fake_23 (r_sipush (v := (225 : Int32)) C (by decide) dX3_fake_24 (r_iload_n C rfl 3 rfl dX3_fake_27 (r_iadd C dX3_fake_28 ?_)))))
      refine r_iaload C dX3_fake_29 hw (fun v6 hw => ?_)
      refine r_iconst (v := (-1 : Int32)) C (by decide) dX3_fake_30 (r_iconst (v := (2 : Int32)) C (by decide) dX3_fake_31 ?_)
      obtain ⟨hq7, hw⟩ := hw
      refine r_callV (ci := 2) (rest := []) (As := [.ref a1, .int v6, .int (-1 : Int32), .int (2 : Int32)]) C sg_X3_ofCharter rfl rfl q2370 q2372 qs55 q90 q2373 rfl (Nat.le_of_ble_eq_true rfl) dX3_fake_32 rfl hq7 (Nat.le_refl _) (Nat.le_refl _) (c_X3_ofCharter G l a0 a1 v6 (-1 : Int32) (2 : Int32) h2 _ hw) (k_I (fun r8 h9 hw => ?_))
      refine r_if_ne (tgt := 40) C (by decide) dX3_fake_35 (fun hc10 => ?_) (fun hc10 => ?_)
      · have hw := hw.1 hc10
        refine r_iload_n C rfl 0 rfl dX3_fake_40 ?_
        exact r_ireturn C dX3_fake_41 (Nat.le_refl _) (Nat.le_refl _) ⟨_, rfl, hw⟩
      · have hw := hw.2 hc10
        refine r_iconst (v := (4 : Int32)) C (by decide) dX3_fake_38 ?_
        exact r_ireturn C dX3_fake_39 (Nat.le_refl _) (Nat.le_refl _) ⟨_, rfl, hw⟩
def B_X3_isGood_91 (Q : Bool → Hp → Prop) (LA8 : Hp → Nat → Nat → Int32 → Int32 → Bool → Int32 → Prop) (h : Hp) (x0 : Nat) (x1 : Nat) (x2 : Int32) (x3 : Int32) (x4 : Bool) (x5 : Int32) : Prop :=
  LA8 h x0 x1 x2 x3 x4 (x5 + (1 : Int32))
def B_X3_isGood_90 (Q : Bool → Hp → Prop) (LA8 : Hp → Nat → Nat → Int32 → Int32 → Bool → Int32 → Prop) (h : Hp) (x0 : Nat) (x1 : Nat) (x2 : Int32) (x4 : Bool) (x5 : Int32) (s0 : Int32) : Prop :=
  B_X3_isGood_91 Q LA8 h x0 x1 x2 s0 x4 x5
def B_X3_isGood_66 (Q : Bool → Hp → Prop) (LA8 : Hp → Nat → Nat → Int32 → Int32 → Bool → Int32 → Prop) (h : Hp) (x0 : Nat) (x1 : Nat) (x2 : Int32) (x3 : Int32) (x5 : Int32) (x6 : Int32) (s0 : Bool) : Prop :=
  w_X3_yearsOf x1 x6 (0 : Int32) h (fun r13 h14 => (r13 ≤ x3 → B_X3_isGood_90 Q LA8 h14 x0 x1 x2 s0 x5 x3) ∧ (¬ r13 ≤ x3 → w_X3_yearsOf x1 x6 (0 : Int32) h14 (fun r16 h17 => B_X3_isGood_90 Q LA8 h17 x0 x1 x2 s0 x5 r16)))
def S_X3_isGood_8 (Q : Bool → Hp → Prop) (LA8 : Hp → Nat → Nat → Int32 → Int32 → Bool → Int32 → Prop) (h : Hp) (x0 : Nat) (x1 : Nat) (x2 : Int32) (x3 : Int32) (x4 : Bool) (x5 : Int32) : Prop :=
  rdI h x1 ((249 : Int32) + x2) (fun v1 => (v1 ≤ x5 → Q x4 h) ∧ (¬ v1 ≤ x5 → rdI h x1 (((255 : Int32) + ((6 : Int32) * x2)) + x5) (fun v3 => hasC h x0 2 ∧ (w_X3_fake x0 x1 v3 h (fun r5 h6 => (¬ r5 = 0 → B_X3_isGood_91 Q LA8 h6 x0 x1 x2 x3 x4 x5) ∧ (r5 = 0 → (x4 = false → B_X3_isGood_66 Q LA8 h6 x0 x1 x2 x3 x5 v3 false) ∧ (x4 = true → w_X3_yearsOf x1 v3 (0 : Int32) h6 (fun r9 h10 => B_X3_isGood_66 Q LA8 h10 x0 x1 x2 x3 x5 v3 (if r9 < x3 then false else true)))))))))
def B_X3_isGood_8 (Q : Bool → Hp → Prop) : Nat → Hp → Nat → Nat → Int32 → Int32 → Bool → Int32 → Prop
  | 0, _, _, _, _, _, _, _ => False
  | k + 1, h, x0, x1, x2, x3, x4, x5 => S_X3_isGood_8 Q (B_X3_isGood_8 Q k) h x0 x1 x2 x3 x4 x5
def w_X3_isGood (a0 : Nat) (a1 : Nat) (i2 : Int32) (h : Hp) (Q : Bool → Hp → Prop) : Prop :=
  ∃ k9 : Nat, B_X3_isGood_8 Q k9 h a0 a1 i2 (-1 : Int32) true (0 : Int32)
theorem b_X3_isGood_91 {G : gT} {l : Launch} {V : Hp → Nat → Nat → Nat → List (Nat × Value) → List Value → Prop} {Q : Bool → Hp → Prop} (C : Cx G l V cX3_isGood 7 RX3 8 178 0 0 (pZ Q) none (some .boolean) [] false) (LA8 : Hp → Nat → Nat → Int32 → Int32 → Bool → Int32 → Prop) (hLA8 : ∀ (h : Hp) (x0 : Nat) (x1 : Nat) (x2 : Int32) (x3 : Int32) (x4 : Bool) (x5 : Int32), LA8 h x0 x1 x2 x3 x4 x5 → V h 0 0 8 [(0, .ref x0), (1, .ref x1), (2, .int x2), (3, .int x3), (4, .int (bI x4)), (5, .int x5)] []) (h : Hp) (x0 : Nat) (x1 : Nat) (x2 : Int32) (x3 : Int32) (x4 : Bool) (x5 : Int32) (hw : B_X3_isGood_91 Q LA8 h x0 x1 x2 x3 x4 x5) : V h 0 0 91 [(0, .ref x0), (1, .ref x1), (2, .int x2), (3, .int x3), (4, .int (bI x4)), (5, .int x5)] [] := by
  unfold B_X3_isGood_91 at hw
  refine r_iinc (v := x5 + (1 : Int32)) (L' := [(5, .int (x5 + (1 : Int32))), (0, .ref x0), (1, .ref x1), (2, .int x2), (3, .int x3), (4, .int (bI x4))]) C (u := 5) rfl (by rfl) (by decide) rfl dX3_isGood_91 (r_goto (tgt := 8) C (by decide) dX3_isGood_94 ?_)
  exact r_sub C [1, 2, 3, 4, 5, 0] rfl (hLA8 _ _ _ _ _ _ _ hw)
theorem b_X3_isGood_90 {G : gT} {l : Launch} {V : Hp → Nat → Nat → Nat → List (Nat × Value) → List Value → Prop} {Q : Bool → Hp → Prop} (C : Cx G l V cX3_isGood 7 RX3 8 178 0 0 (pZ Q) none (some .boolean) [] false) (LA8 : Hp → Nat → Nat → Int32 → Int32 → Bool → Int32 → Prop) (hLA8 : ∀ (h : Hp) (x0 : Nat) (x1 : Nat) (x2 : Int32) (x3 : Int32) (x4 : Bool) (x5 : Int32), LA8 h x0 x1 x2 x3 x4 x5 → V h 0 0 8 [(0, .ref x0), (1, .ref x1), (2, .int x2), (3, .int x3), (4, .int (bI x4)), (5, .int x5)] []) (h : Hp) (x0 : Nat) (x1 : Nat) (x2 : Int32) (x4 : Bool) (x5 : Int32) (s0 : Int32) (hw : B_X3_isGood_90 Q LA8 h x0 x1 x2 x4 x5 s0) : V h 0 0 90 [(0, .ref x0), (1, .ref x1), (2, .int x2), (4, .int (bI x4)), (5, .int x5)] [.int s0] := by
  unfold B_X3_isGood_90 at hw
  refine r_istore_n (L' := [(3, .int s0), (0, .ref x0), (1, .ref x1), (2, .int x2), (4, .int (bI x4)), (5, .int x5)]) C rfl (by decide) rfl dX3_isGood_90 ?_
  exact r_sub C [1, 2, 3, 0, 4, 5] rfl (b_X3_isGood_91 C LA8 hLA8 _ _ _ _ _ _ _ hw)
theorem b_X3_isGood_66 {G : gT} {l : Launch} {V : Hp → Nat → Nat → Nat → List (Nat × Value) → List Value → Prop} {Q : Bool → Hp → Prop} (C : Cx G l V cX3_isGood 7 RX3 8 178 0 0 (pZ Q) none (some .boolean) [] false) (LA8 : Hp → Nat → Nat → Int32 → Int32 → Bool → Int32 → Prop) (hLA8 : ∀ (h : Hp) (x0 : Nat) (x1 : Nat) (x2 : Int32) (x3 : Int32) (x4 : Bool) (x5 : Int32), LA8 h x0 x1 x2 x3 x4 x5 → V h 0 0 8 [(0, .ref x0), (1, .ref x1), (2, .int x2), (3, .int x3), (4, .int (bI x4)), (5, .int x5)] []) (h : Hp) (x0 : Nat) (x1 : Nat) (x2 : Int32) (x3 : Int32) (x5 : Int32) (x6 : Int32) (s0 : Bool) (hw : B_X3_isGood_66 Q LA8 h x0 x1 x2 x3 x5 x6 s0) : V h 0 0 66 [(0, .ref x0), (1, .ref x1), (2, .int x2), (3, .int x3), (5, .int x5), (6, .int x6)] [.int (bI s0)] := by
  unfold B_X3_isGood_66 at hw
  refine r_istore (L' := [(4, .int (bI s0)), (0, .ref x0), (1, .ref x1), (2, .int x2), (3, .int x3), (5, .int x5), (6, .int x6)]) C (by decide) rfl dX3_isGood_66 (r_aload_n C rfl 2 rfl dX3_isGood_68 (r_iload C 6 rfl dX3_isGood_69 (r_iconst (v := (0 : Int32)) C (by decide) dX3_isGood_71 ?_)))
  refine r_callS (rest := []) (As := [.ref x1, .int x6, .int (0 : Int32)]) C sg_X3_yearsOf q2358 q2359 q90 q2360 rfl (Nat.le_of_ble_eq_true rfl) dX3_isGood_72 rfl (Nat.le_refl _) (Nat.le_refl _) (c_X3_yearsOf G l x1 x6 (0 : Int32) h _ hw) (k_I (fun r13 h14 hw => ?_))
  refine r_iload_n C rfl 4 rfl dX3_isGood_75 ?_
  refine r_icmp_le (tgt := 89) C (by decide) dX3_isGood_76 (fun hc15 => ?_) (fun hc15 => ?_)
  · have hw := hw.1 hc15
    refine r_iload_n C rfl 4 rfl dX3_isGood_89 ?_
    exact r_sub C [1, 2, 3, 0, 5] rfl (b_X3_isGood_90 C LA8 hLA8 _ _ _ _ _ _ _ hw)
  · have hw := hw.2 hc15
    refine r_aload_n C rfl 2 rfl dX3_isGood_79 (r_iload C 6 rfl dX3_isGood_80 (r_iconst (v := (0 : Int32)) C (by decide) dX3_isGood_82 ?_))
    refine r_callS (rest := []) (As := [.ref x1, .int x6, .int (0 : Int32)]) C sg_X3_yearsOf q2358 q2359 q90 q2360 rfl (Nat.le_of_ble_eq_true rfl) dX3_isGood_83 rfl (Nat.le_refl _) (Nat.le_refl _) (c_X3_yearsOf G l x1 x6 (0 : Int32) h14 _ hw) (k_I (fun r16 h17 hw => ?_))
    refine r_goto (tgt := 90) C (by decide) dX3_isGood_86 ?_
    exact r_sub C [1, 2, 3, 0, 5] rfl (b_X3_isGood_90 C LA8 hLA8 _ _ _ _ _ _ _ hw)
theorem s_X3_isGood_8 {G : gT} {l : Launch} {V : Hp → Nat → Nat → Nat → List (Nat × Value) → List Value → Prop} {Q : Bool → Hp → Prop} (C : Cx G l V cX3_isGood 7 RX3 8 178 0 0 (pZ Q) none (some .boolean) [] false) (LA8 : Hp → Nat → Nat → Int32 → Int32 → Bool → Int32 → Prop) (hLA8 : ∀ (h : Hp) (x0 : Nat) (x1 : Nat) (x2 : Int32) (x3 : Int32) (x4 : Bool) (x5 : Int32), LA8 h x0 x1 x2 x3 x4 x5 → V h 0 0 8 [(0, .ref x0), (1, .ref x1), (2, .int x2), (3, .int x3), (4, .int (bI x4)), (5, .int x5)] []) (h : Hp) (x0 : Nat) (x1 : Nat) (x2 : Int32) (x3 : Int32) (x4 : Bool) (x5 : Int32) (hw : S_X3_isGood_8 Q LA8 h x0 x1 x2 x3 x4 x5) : V h 0 0 8 [(0, .ref x0), (1, .ref x1), (2, .int x2), (3, .int x3), (4, .int (bI x4)), (5, .int x5)] [] := by
  unfold S_X3_isGood_8 at hw
  refine r_iload C 5 rfl dX3_isGood_8 (r_aload_n C rfl 1 rfl dX3_isGood_10 (r_sipush (v := (249 : Int32)) C (by decide) dX3_isGood_11 (r_iload_n C rfl 2 rfl dX3_isGood_14 (r_iadd C dX3_isGood_15 ?_))))
  refine r_iaload C dX3_isGood_16 hw (fun v1 hw => ?_)
  refine r_icmp_ge (tgt := 97) C (by decide) dX3_isGood_17 (fun hc2 => ?_) (fun hc2 => ?_)
  · have hw := hw.1 hc2
    refine r_iload C 4 rfl dX3_isGood_97 ?_
    exact r_zreturn (x := x4) C dX3_isGood_99 (Nat.le_refl _) (Nat.le_refl _) ⟨_, rfl, hw⟩
  · have hw := hw.2 hc2
    refine r_aload_n C rfl 1 rfl dX3_isGood_20 (r_sipush (v := (255 : Int32)) C (by decide) dX3_isGood_21 (r_bipush (v := (6 : Int32)) C (by decide) dX3_isGood_24 (r_iload_n C rfl 2 rfl dX3_isGood_26 (r_imul C dX3_isGood_27 (r_iadd C dX3_isGood_28 ?_)))))
    refine r_iload C 5 rfl dX3_isGood_29 (r_iadd C dX3_isGood_31 ?_)
    refine r_iaload C dX3_isGood_32 hw (fun v3 hw => ?_)
    refine r_istore (L' := [(6, .int v3), (0, .ref x0), (1, .ref x1), (2, .int x2), (3, .int x3), (4, .int (bI x4)), (5, .int x5)]) C (by decide) rfl dX3_isGood_33 (r_aload_n C rfl 1 rfl dX3_isGood_35 (r_aload_n C rfl 2 rfl dX3_isGood_36 (r_iload C 0 rfl dX3_isGood_37 ?_)))
    obtain ⟨hq4, hw⟩ := hw
    refine r_callV (ci := 2) (rest := []) (As := [.ref x1, .int v3]) C sg_X3_fake rfl rfl q2339 q2341 qs54 q90 q2342 rfl (Nat.le_of_ble_eq_true rfl) dX3_isGood_39 rfl hq4 (Nat.le_refl _) (Nat.le_refl _) (c_X3_fake G l x0 x1 v3 h _ hw) (k_I (fun r5 h6 hw => ?_))
    refine r_if_ne (tgt := 91) C (by decide) dX3_isGood_42 (fun hc7 => ?_) (fun hc7 => ?_)
    · have hw := hw.1 hc7
      exact r_sub C [1, 2, 3, 4, 5, 6] rfl (b_X3_isGood_91 C LA8 hLA8 _ _ _ _ _ _ _ hw)
    · have hw := hw.2 hc7
      refine r_iload C 5 rfl dX3_isGood_45 ?_
      refine r_if_eq_b (tgt := 65) C (by decide) dX3_isGood_47 (fun hc8 => ?_) (fun hc8 => ?_)
      · have hw := hw.1 hc8
        refine r_iconst (v := (0 : Int32)) C (by decide) dX3_isGood_65 ?_
        exact r_sub C [1, 2, 3, 4, 6, 0] rfl (b_X3_isGood_66 C LA8 hLA8 _ _ _ _ _ _ _ _ hw)
      · have hw := hw.2 hc8
        refine r_aload_n C rfl 2 rfl dX3_isGood_50 (r_iload C 0 rfl dX3_isGood_51 (r_iconst (v := (0 : Int32)) C (by decide) dX3_isGood_53 ?_))
        refine r_callS (rest := []) (As := [.ref x1, .int v3, .int (0 : Int32)]) C sg_X3_yearsOf q2358 q2359 q90 q2360 rfl (Nat.le_of_ble_eq_true rfl) dX3_isGood_54 rfl (Nat.le_refl _) (Nat.le_refl _) (c_X3_yearsOf G l x1 v3 (0 : Int32) h6 _ hw) (k_I (fun r9 h10 hw => ?_))
        refine r_iload_n C rfl 4 rfl dX3_isGood_57 ?_
        have hJ : V h10 0 0 66 [(6, .int v3), (0, .ref x0), (1, .ref x1), (2, .int x2), (3, .int x3), (5, .int x5)] [.int (bI (if r9 < x3 then false else true))] := by
          exact r_sub C [1, 2, 3, 4, 5, 0] rfl (b_X3_isGood_66 C LA8 hLA8 _ _ _ _ _ _ _ _ hw)
        refine r_icmp_lt (tgt := 65) C (by decide) dX3_isGood_58 (fun hc11 => ?_) (fun hc11 => ?_)
        · have hJ12 := hJ
          try simp only [if_pos hc11] at hJ12
          refine r_iconst (v := (0 : Int32)) C (by decide) dX3_isGood_65 ?_
          exact r_sub C [0, 1, 2, 3, 4, 6] rfl hJ12
        · have hJ12 := hJ
          try simp only [if_neg hc11] at hJ12
          refine r_iconst (v := (1 : Int32)) C (by decide) dX3_isGood_61 (r_goto (tgt := 66) C (by decide) dX3_isGood_62 ?_)
          exact r_sub C [0, 1, 2, 3, 4, 6] rfl hJ12
theorem b_X3_isGood_8 {G : gT} {l : Launch} {V : Hp → Nat → Nat → Nat → List (Nat × Value) → List Value → Prop} {Q : Bool → Hp → Prop} (C : Cx G l V cX3_isGood 7 RX3 8 178 0 0 (pZ Q) none (some .boolean) [] false) : ∀ (k : Nat) (h : Hp) (x0 : Nat) (x1 : Nat) (x2 : Int32) (x3 : Int32) (x4 : Bool) (x5 : Int32), B_X3_isGood_8 Q k h x0 x1 x2 x3 x4 x5 → V h 0 0 8 [(0, .ref x0), (1, .ref x1), (2, .int x2), (3, .int x3), (4, .int (bI x4)), (5, .int x5)] [] := by
  intro k
  induction k with
  | zero =>
    intro h x0 x1 x2 x3 x4 x5 hw
    exact hw.elim
  | succ k ih =>
    intro h x0 x1 x2 x3 x4 x5 hw
    exact s_X3_isGood_8 C _ (fun h x0 x1 x2 x3 x4 x5 hw => ih h x0 x1 x2 x3 x4 x5 hw) h x0 x1 x2 x3 x4 x5 hw
theorem sg_X3_isGood : ySg yX3_isGood 2 = true := by decide +kernel
theorem c_X3_isGood (G : gT) (l : Launch) (a0 : Nat) (a1 : Nat) (i2 : Int32) (h : Hp) (Q : Bool → Hp → Prop) (hw : w_X3_isGood a0 a1 i2 h Q) : Ct G l yX3_isGood (ws_ yX3_isGood cX3_isGood 7 (some .boolean)) 8 178 0 0 [.ref a0, .ref a1, .int i2] h (pZ Q) := by
  refine Ct.of (own := RX3) false (by decide +kernel) rfl (show (_ : Nat) ≤ _ from Nat.le_of_ble_eq_true rfl) (fun z => by cases z) (fun V C => ?_)
  show V h 0 0 0 [(0, .ref a0), (1, .ref a1), (2, .int i2)] []
  unfold w_X3_isGood at hw
  refine r_iconst (v := (-1 : Int32)) C (by decide) dX3_isGood_0 (r_istore_n (L' := [(3, .int (-1 : Int32)), (0, .ref a0), (1, .ref a1), (2, .int i2)]) C rfl (by decide) rfl dX3_isGood_1 (r_iconst (v := (1 : Int32)) C (by decide) dX3_isGood_2 (r_istore (L' := [(4, .int (1 : Int32)), (3, .int (-1 : Int32)), (0, .ref a0), (1, .ref a1), (2, .int i2)]) C (by decide) rfl dX3_isGood_3 (r_iconst (v := (0 : Int32)) C (by decide) dX3_isGood_5 (r_istore (L' := [(5, .int (0 : Int32)), (4, .int (1 : Int32)), (3, .int (-1 : Int32)), (0, .ref a0), (1, .ref a1), (2, .int i2)]) C (by decide) rfl dX3_isGood_6 ?_)))))
  obtain ⟨k9, hw⟩ := hw
  exact r_sub C [3, 4, 5, 2, 1, 0] rfl (b_X3_isGood_8 C _ _ _ _ _ _ _ _ hw)
def S_X3_bad_4 (Q : Int32 → Hp → Prop) (LA4 : Hp → Nat → Nat → Int32 → Int32 → Prop) (h : Hp) (x0 : Nat) (x1 : Nat) (x2 : Int32) (x3 : Int32) : Prop :=
  ((6 : Int32) ≤ x3 → Q x2 h) ∧ (¬ (6 : Int32) ≤ x3 → hasC h x0 2 ∧ (w_X3_isGood x0 x1 x3 h (fun r3 h4 => LA4 h4 x0 x1 (x2 + (bI (if r3 = false then true else false))) (x3 + (1 : Int32)))))
def B_X3_bad_4 (Q : Int32 → Hp → Prop) : Nat → Hp → Nat → Nat → Int32 → Int32 → Prop
  | 0, _, _, _, _, _ => False
  | k + 1, h, x0, x1, x2, x3 => S_X3_bad_4 Q (B_X3_bad_4 Q k) h x0 x1 x2 x3
def w_X3_bad (a0 : Nat) (a1 : Nat) (h : Hp) (Q : Int32 → Hp → Prop) : Prop :=
  ∃ k9 : Nat, B_X3_bad_4 Q k9 h a0 a1 (0 : Int32) (0 : Int32)
theorem s_X3_bad_4 {G : gT} {l : Launch} {V : Hp → Nat → Nat → Nat → List (Nat × Value) → List Value → Prop} {Q : Int32 → Hp → Prop} (C : Cx G l V cX3_bad 4 RX3 9 204 0 0 (pI Q) none (some .int) [] false) (LA4 : Hp → Nat → Nat → Int32 → Int32 → Prop) (hLA4 : ∀ (h : Hp) (x0 : Nat) (x1 : Nat) (x2 : Int32) (x3 : Int32), LA4 h x0 x1 x2 x3 → V h 0 0 4 [(0, .ref x0), (1, .ref x1), (2, .int x2), (3, .int x3)] []) (h : Hp) (x0 : Nat) (x1 : Nat) (x2 : Int32) (x3 : Int32) (hw : S_X3_bad_4 Q LA4 h x0 x1 x2 x3) : V h 0 0 4 [(0, .ref x0), (1, .ref x1), (2, .int x2), (3, .int x3)] [] := by
  unfold S_X3_bad_4 at hw
  refine r_iload_n C rfl 3 rfl dX3_bad_4 (r_bipush (v := (6 : Int32)) C (by decide) dX3_bad_5 ?_)
  refine r_icmp_ge (tgt := 33) C (by decide) dX3_bad_7 (fun hc1 => ?_) (fun hc1 => ?_)
  · have hw := hw.1 hc1
    refine r_iload_n C rfl 2 rfl dX3_bad_33 ?_
    exact r_ireturn C dX3_bad_34 (Nat.le_refl _) (Nat.le_refl _) ⟨_, rfl, hw⟩
  · have hw := hw.2 hc1
    refine r_iload_n C rfl 2 rfl dX3_bad_10 (r_aload_n C rfl 0 rfl dX3_bad_11 (r_aload_n C rfl 1 rfl dX3_bad_12 (r_iload_n C rfl 3 rfl dX3_bad_13 ?_)))
    obtain ⟨hq2, hw⟩ := hw
    refine r_callV (ci := 2) (rest := [.int x2]) (As := [.ref x1, .int x3]) C sg_X3_isGood rfl rfl q2390 q2392 qs60 q90 q2393 rfl (Nat.le_of_ble_eq_true rfl) dX3_bad_14 rfl hq2 (Nat.le_refl _) (Nat.le_refl _) (c_X3_isGood G l x0 x1 x3 h _ hw) (k_Z (fun r3 h4 hw => ?_))
    have hJ : V h4 0 0 25 [(0, .ref x0), (1, .ref x1), (3, .int x3)] [.int (bI (if r3 = false then true else false)), .int x2] := by
      refine r_iadd C dX3_bad_25 (r_istore_n (L' := [(2, .int (x2 + (bI (if r3 = false then true else false)))), (0, .ref x0), (1, .ref x1), (3, .int x3)]) C rfl (by decide) rfl dX3_bad_26 (r_iinc (v := x3 + (1 : Int32)) (L' := [(3, .int (x3 + (1 : Int32))), (2, .int (x2 + (bI (if r3 = false then true else false)))), (0, .ref x0), (1, .ref x1)]) C (u := 3) rfl (by rfl) (by decide) rfl dX3_bad_27 (r_goto (tgt := 4) C (by decide) dX3_bad_30 ?_)))
      exact r_sub C [2, 3, 1, 0] rfl (hLA4 _ _ _ _ _ hw)
    refine r_if_eq_b (tgt := 24) C (by decide) dX3_bad_17 (fun hc5 => ?_) (fun hc5 => ?_)
    · have hJ6 := hJ
      try simp only [if_pos hc5] at hJ6
      refine r_iconst (v := (1 : Int32)) C (by decide) dX3_bad_24 ?_
      exact r_sub C [0, 1, 3] rfl hJ6
    · have hJ6 := hJ
      try simp only [if_neg (show ¬ r3 = false from by rw [hc5]; decide)] at hJ6
      refine r_iconst (v := (0 : Int32)) C (by decide) dX3_bad_20 (r_goto (tgt := 25) C (by decide) dX3_bad_21 ?_)
      exact r_sub C [0, 1, 3] rfl hJ6
theorem b_X3_bad_4 {G : gT} {l : Launch} {V : Hp → Nat → Nat → Nat → List (Nat × Value) → List Value → Prop} {Q : Int32 → Hp → Prop} (C : Cx G l V cX3_bad 4 RX3 9 204 0 0 (pI Q) none (some .int) [] false) : ∀ (k : Nat) (h : Hp) (x0 : Nat) (x1 : Nat) (x2 : Int32) (x3 : Int32), B_X3_bad_4 Q k h x0 x1 x2 x3 → V h 0 0 4 [(0, .ref x0), (1, .ref x1), (2, .int x2), (3, .int x3)] [] := by
  intro k
  induction k with
  | zero =>
    intro h x0 x1 x2 x3 hw
    exact hw.elim
  | succ k ih =>
    intro h x0 x1 x2 x3 hw
    exact s_X3_bad_4 C _ (fun h x0 x1 x2 x3 hw => ih h x0 x1 x2 x3 hw) h x0 x1 x2 x3 hw
theorem sg_X3_bad : ySg yX3_bad 1 = true := by decide +kernel
theorem c_X3_bad (G : gT) (l : Launch) (a0 : Nat) (a1 : Nat) (h : Hp) (Q : Int32 → Hp → Prop) (hw : w_X3_bad a0 a1 h Q) : Ct G l yX3_bad (ws_ yX3_bad cX3_bad 4 (some .int)) 9 204 0 0 [.ref a0, .ref a1] h (pI Q) := by
  refine Ct.of (own := RX3) false (by decide +kernel) rfl (show (_ : Nat) ≤ _ from Nat.le_of_ble_eq_true rfl) (fun z => by cases z) (fun V C => ?_)
  show V h 0 0 0 [(0, .ref a0), (1, .ref a1)] []
  unfold w_X3_bad at hw
  refine r_iconst (v := (0 : Int32)) C (by decide) dX3_bad_0 (r_istore_n (L' := [(2, .int (0 : Int32)), (0, .ref a0), (1, .ref a1)]) C rfl (by decide) rfl dX3_bad_1 (r_iconst (v := (0 : Int32)) C (by decide) dX3_bad_2 (r_istore_n (L' := [(3, .int (0 : Int32)), (2, .int (0 : Int32)), (0, .ref a0), (1, .ref a1)]) C rfl (by decide) rfl dX3_bad_3 ?_)))
  obtain ⟨k9, hw⟩ := hw
  exact r_sub C [2, 3, 1, 0] rfl (b_X3_bad_4 C _ _ _ _ _ _ hw)
def B_X3_fakesOn_46 (Q : Int32 → Hp → Prop) (LA4 : Hp → Nat → Int32 → Int32 → Int32 → Prop) (h : Hp) (x0 : Nat) (x1 : Int32) (x3 : Int32) (s0 : Int32) (s1 : Bool) : Prop :=
  LA4 h x0 x1 (s0 + (bI s1)) (x3 + (1 : Int32))
def S_X3_fakesOn_4 (Q : Int32 → Hp → Prop) (LA4 : Hp → Nat → Int32 → Int32 → Int32 → Prop) (h : Hp) (x0 : Nat) (x1 : Int32) (x2 : Int32) (x3 : Int32) : Prop :=
  gfR h x0 2 1 (fun v1 => nn v1 (fun y2 => rdI h y2 (2 : Int32) (fun v3 => (v3 ≤ x3 → Q x2 h) ∧ (¬ v3 ≤ x3 → gfR h x0 2 1 (fun v5 => nn v5 (fun y6 => rdI h y6 ((225 : Int32) + x3) (fun v7 => (¬ v7 = x1 → B_X3_fakesOn_46 Q LA4 h x0 x1 x3 x2 false) ∧ (v7 = x1 → gfR h x0 2 1 (fun v9 => nn v9 (fun y10 => hasC h x0 2 ∧ (w_X3_fake x0 y10 x3 h (fun r12 h13 => B_X3_fakesOn_46 Q LA4 h13 x0 x1 x3 x2 (if r12 ≤ 0 then false else true)))))))))))))
def B_X3_fakesOn_4 (Q : Int32 → Hp → Prop) : Nat → Hp → Nat → Int32 → Int32 → Int32 → Prop
  | 0, _, _, _, _, _ => False
  | k + 1, h, x0, x1, x2, x3 => S_X3_fakesOn_4 Q (B_X3_fakesOn_4 Q k) h x0 x1 x2 x3
def w_X3_fakesOn (a0 : Nat) (i1 : Int32) (h : Hp) (Q : Int32 → Hp → Prop) : Prop :=
  ∃ k9 : Nat, B_X3_fakesOn_4 Q k9 h a0 i1 (0 : Int32) (0 : Int32)
theorem b_X3_fakesOn_46 {G : gT} {l : Launch} {V : Hp → Nat → Nat → Nat → List (Nat × Value) → List Value → Prop} {Q : Int32 → Hp → Prop} (C : Cx G l V cX3_fakesOn 4 RX3 8 178 0 0 (pI Q) none (some .int) [] false) (LA4 : Hp → Nat → Int32 → Int32 → Int32 → Prop) (hLA4 : ∀ (h : Hp) (x0 : Nat) (x1 : Int32) (x2 : Int32) (x3 : Int32), LA4 h x0 x1 x2 x3 → V h 0 0 4 [(0, .ref x0), (1, .int x1), (2, .int x2), (3, .int x3)] []) (h : Hp) (x0 : Nat) (x1 : Int32) (x3 : Int32) (s0 : Int32) (s1 : Bool) (hw : B_X3_fakesOn_46 Q LA4 h x0 x1 x3 s0 s1) : V h 0 0 46 [(0, .ref x0), (1, .int x1), (3, .int x3)] [.int (bI s1), .int s0] := by
  unfold B_X3_fakesOn_46 at hw
  refine r_iadd C dX3_fakesOn_46 (r_istore_n (L' := [(2, .int (s0 + (bI s1))), (0, .ref x0), (1, .int x1), (3, .int x3)]) C rfl (by decide) rfl dX3_fakesOn_47 (r_iinc (v := x3 + (1 : Int32)) (L' := [(3, .int (x3 + (1 : Int32))), (2, .int (s0 + (bI s1))), (0, .ref x0), (1, .int x1)]) C (u := 3) rfl (by rfl) (by decide) rfl dX3_fakesOn_48 (r_goto (tgt := 4) C (by decide) dX3_fakesOn_51 ?_)))
  exact r_sub C [2, 3, 1, 0] rfl (hLA4 _ _ _ _ _ hw)
theorem s_X3_fakesOn_4 {G : gT} {l : Launch} {V : Hp → Nat → Nat → Nat → List (Nat × Value) → List Value → Prop} {Q : Int32 → Hp → Prop} (C : Cx G l V cX3_fakesOn 4 RX3 8 178 0 0 (pI Q) none (some .int) [] false) (LA4 : Hp → Nat → Int32 → Int32 → Int32 → Prop) (hLA4 : ∀ (h : Hp) (x0 : Nat) (x1 : Int32) (x2 : Int32) (x3 : Int32), LA4 h x0 x1 x2 x3 → V h 0 0 4 [(0, .ref x0), (1, .int x1), (2, .int x2), (3, .int x3)] []) (h : Hp) (x0 : Nat) (x1 : Int32) (x2 : Int32) (x3 : Int32) (hw : S_X3_fakesOn_4 Q LA4 h x0 x1 x2 x3) : V h 0 0 4 [(0, .ref x0), (1, .int x1), (2, .int x2), (3, .int x3)] [] := by
  unfold S_X3_fakesOn_4 at hw
  refine r_iload_n C rfl 3 rfl dX3_fakesOn_4 (r_aload_n C rfl 0 rfl dX3_fakesOn_5 ?_)
  refine r_gfR (k := 1) C kX3 (by decide) (Or.inl q2156) (Or.inl rfl) dX3_fakesOn_6 hw (fun v1 hw => ?_)
  refine r_iconst (v := (2 : Int32)) C (by decide) dX3_fakesOn_9 ?_
  obtain ⟨y2, rfl, hw_y2⟩ := hw
  have hw := hw_y2
  refine r_iaload C dX3_fakesOn_10 hw (fun v3 hw => ?_)
  refine r_icmp_ge (tgt := 54) C (by decide) dX3_fakesOn_11 (fun hc4 => ?_) (fun hc4 => ?_)
  · have hw := hw.1 hc4
    refine r_iload_n C rfl 2 rfl dX3_fakesOn_54 ?_
    exact r_ireturn C dX3_fakesOn_55 (Nat.le_refl _) (Nat.le_refl _) ⟨_, rfl, hw⟩
  · have hw := hw.2 hc4
    refine r_iload_n C rfl 2 rfl dX3_fakesOn_14 (r_aload_n C rfl 0 rfl dX3_fakesOn_15 ?_)
    refine r_gfR (k := 1) C kX3 (by decide) (Or.inl q2156) (Or.inl rfl) dX3_fakesOn_16 hw (fun v5 hw => ?_)
    refine r_sipush (v := (225 : Int32)) C (by decide) dX3_fakesOn_19 (r_iload_n C rfl 3 rfl dX3_fakesOn_22 (r_iadd C dX3_fakesOn_23 ?_))
    obtain ⟨y6, rfl, hw_y6⟩ := hw
    have hw := hw_y6
    refine r_iaload C dX3_fakesOn_24 hw (fun v7 hw => ?_)
    refine r_iload_n C rfl 1 rfl dX3_fakesOn_25 ?_
    refine r_icmp_ne (tgt := 45) C (by decide) dX3_fakesOn_26 (fun hc8 => ?_) (fun hc8 => ?_)
    · have hw := hw.1 hc8
      refine r_iconst (v := (0 : Int32)) C (by decide) dX3_fakesOn_45 ?_
      exact r_sub C [0, 1, 3] rfl (b_X3_fakesOn_46 C LA4 hLA4 _ _ _ _ _ _ hw)
    · have hw := hw.2 hc8
      refine r_aload_n C rfl 0 rfl dX3_fakesOn_29 (r_aload_n C rfl 0 rfl dX3_fakesOn_30 ?_)
      refine r_gfR (k := 1) C kX3 (by decide) (Or.inl q2156) (Or.inl rfl) dX3_fakesOn_31 hw (fun v9 hw => ?_)
      refine r_iload_n C rfl 3 rfl dX3_fakesOn_34 ?_
      obtain ⟨y10, rfl, hw_y10⟩ := hw
      have hw := hw_y10
      obtain ⟨hq11, hw⟩ := hw
      refine r_callV (ci := 2) (rest := [.int x2]) (As := [.ref y10, .int x3]) C sg_X3_fake rfl rfl q2339 q2341 qs54 q90 q2342 rfl (Nat.le_of_ble_eq_true rfl) dX3_fakesOn_35 rfl hq11 (Nat.le_refl _) (Nat.le_refl _) (c_X3_fake G l x0 y10 x3 h _ hw) (k_I (fun r12 h13 hw => ?_))
      have hJ : V h13 0 0 46 [(0, .ref x0), (1, .int x1), (3, .int x3)] [.int (bI (if r12 ≤ 0 then false else true)), .int x2] := by
        exact r_sub C [0, 1, 2] rfl (b_X3_fakesOn_46 C LA4 hLA4 _ _ _ _ _ _ hw)
      refine r_if_le (tgt := 45) C (by decide) dX3_fakesOn_38 (fun hc14 => ?_) (fun hc14 => ?_)
      · have hJ15 := hJ
        try simp only [if_pos hc14] at hJ15
        refine r_iconst (v := (0 : Int32)) C (by decide) dX3_fakesOn_45 ?_
        exact r_sub C [0, 1, 3] rfl hJ15
      · have hJ15 := hJ
        try simp only [if_neg hc14] at hJ15
        refine r_iconst (v := (1 : Int32)) C (by decide) dX3_fakesOn_41 (r_goto (tgt := 46) C (by decide) dX3_fakesOn_42 ?_)
        exact r_sub C [0, 1, 3] rfl hJ15
theorem b_X3_fakesOn_4 {G : gT} {l : Launch} {V : Hp → Nat → Nat → Nat → List (Nat × Value) → List Value → Prop} {Q : Int32 → Hp → Prop} (C : Cx G l V cX3_fakesOn 4 RX3 8 178 0 0 (pI Q) none (some .int) [] false) : ∀ (k : Nat) (h : Hp) (x0 : Nat) (x1 : Int32) (x2 : Int32) (x3 : Int32), B_X3_fakesOn_4 Q k h x0 x1 x2 x3 → V h 0 0 4 [(0, .ref x0), (1, .int x1), (2, .int x2), (3, .int x3)] [] := by
  intro k
  induction k with
  | zero =>
    intro h x0 x1 x2 x3 hw
    exact hw.elim
  | succ k ih =>
    intro h x0 x1 x2 x3 hw
    exact s_X3_fakesOn_4 C _ (fun h x0 x1 x2 x3 hw => ih h x0 x1 x2 x3 hw) h x0 x1 x2 x3 hw
theorem sg_X3_fakesOn : ySg yX3_fakesOn 1 = true := by decide +kernel
theorem c_X3_fakesOn (G : gT) (l : Launch) (a0 : Nat) (i1 : Int32) (h : Hp) (Q : Int32 → Hp → Prop) (hw : w_X3_fakesOn a0 i1 h Q) : Ct G l yX3_fakesOn (ws_ yX3_fakesOn cX3_fakesOn 4 (some .int)) 8 178 0 0 [.ref a0, .int i1] h (pI Q) := by
  refine Ct.of (own := RX3) false (by decide +kernel) rfl (show (_ : Nat) ≤ _ from Nat.le_of_ble_eq_true rfl) (fun z => by cases z) (fun V C => ?_)
  show V h 0 0 0 [(0, .ref a0), (1, .int i1)] []
  unfold w_X3_fakesOn at hw
  refine r_iconst (v := (0 : Int32)) C (by decide) dX3_fakesOn_0 (r_istore_n (L' := [(2, .int (0 : Int32)), (0, .ref a0), (1, .int i1)]) C rfl (by decide) rfl dX3_fakesOn_1 (r_iconst (v := (0 : Int32)) C (by decide) dX3_fakesOn_2 (r_istore_n (L' := [(3, .int (0 : Int32)), (2, .int (0 : Int32)), (0, .ref a0), (1, .int i1)]) C rfl (by decide) rfl dX3_fakesOn_3 ?_)))
  obtain ⟨k9, hw⟩ := hw
  exact r_sub C [2, 3, 1, 0] rfl (b_X3_fakesOn_4 C _ _ _ _ _ _ hw)
def S_X3_badCharters_4 (Q : Int32 → Hp → Prop) (LA4 : Hp → Nat → Int32 → Int32 → Prop) (h : Hp) (x0 : Nat) (x1 : Int32) (x2 : Int32) : Prop :=
  ((6 : Int32) ≤ x2 → Q x1 h) ∧ (¬ (6 : Int32) ≤ x2 → hasC h x0 2 ∧ (w_X3_fakesOn x0 x2 h (fun r3 h4 => LA4 h4 x0 (x1 + (bI (if r3 ≤ 0 then false else true))) (x2 + (1 : Int32)))))
def B_X3_badCharters_4 (Q : Int32 → Hp → Prop) : Nat → Hp → Nat → Int32 → Int32 → Prop
  | 0, _, _, _, _ => False
  | k + 1, h, x0, x1, x2 => S_X3_badCharters_4 Q (B_X3_badCharters_4 Q k) h x0 x1 x2
def w_X3_badCharters (a0 : Nat) (h : Hp) (Q : Int32 → Hp → Prop) : Prop :=
  ∃ k9 : Nat, B_X3_badCharters_4 Q k9 h a0 (0 : Int32) (0 : Int32)
theorem s_X3_badCharters_4 {G : gT} {l : Launch} {V : Hp → Nat → Nat → Nat → List (Nat × Value) → List Value → Prop} {Q : Int32 → Hp → Prop} (C : Cx G l V cX3_badCharters 3 RX3 9 201 0 0 (pI Q) none (some .int) [] false) (LA4 : Hp → Nat → Int32 → Int32 → Prop) (hLA4 : ∀ (h : Hp) (x0 : Nat) (x1 : Int32) (x2 : Int32), LA4 h x0 x1 x2 → V h 0 0 4 [(0, .ref x0), (1, .int x1), (2, .int x2)] []) (h : Hp) (x0 : Nat) (x1 : Int32) (x2 : Int32) (hw : S_X3_badCharters_4 Q LA4 h x0 x1 x2) : V h 0 0 4 [(0, .ref x0), (1, .int x1), (2, .int x2)] [] := by
  unfold S_X3_badCharters_4 at hw
  refine r_iload_n C rfl 2 rfl dX3_badCharters_4 (r_bipush (v := (6 : Int32)) C (by decide) dX3_badCharters_5 ?_)
  refine r_icmp_ge (tgt := 32) C (by decide) dX3_badCharters_7 (fun hc1 => ?_) (fun hc1 => ?_)
  · have hw := hw.1 hc1
    refine r_iload_n C rfl 1 rfl dX3_badCharters_32 ?_
    exact r_ireturn C dX3_badCharters_33 (Nat.le_refl _) (Nat.le_refl _) ⟨_, rfl, hw⟩
  · have hw := hw.2 hc1
    refine r_iload_n C rfl 1 rfl dX3_badCharters_10 (r_aload_n C rfl 0 rfl dX3_badCharters_11 (r_iload_n C rfl 2 rfl dX3_badCharters_12 ?_))
    obtain ⟨hq2, hw⟩ := hw
    refine r_callV (ci := 2) (rest := [.int x1]) (As := [.int x2]) C sg_X3_fakesOn rfl rfl q2382 q2384 qs58 q90 q2385 rfl (Nat.le_of_ble_eq_true rfl) dX3_badCharters_13 rfl hq2 (Nat.le_refl _) (Nat.le_refl _) (c_X3_fakesOn G l x0 x2 h _ hw) (k_I (fun r3 h4 hw => ?_))
    have hJ : V h4 0 0 24 [(0, .ref x0), (2, .int x2)] [.int (bI (if r3 ≤ 0 then false else true)), .int x1] := by
      refine r_iadd C dX3_badCharters_24 (r_istore_n (L' := [(1, .int (x1 + (bI (if r3 ≤ 0 then false else true)))), (0, .ref x0), (2, .int x2)]) C rfl (by decide) rfl dX3_badCharters_25 (r_iinc (v := x2 + (1 : Int32)) (L' := [(2, .int (x2 + (1 : Int32))), (1, .int (x1 + (bI (if r3 ≤ 0 then false else true)))), (0, .ref x0)]) C (u := 2) rfl (by rfl) (by decide) rfl dX3_badCharters_26 (r_goto (tgt := 4) C (by decide) dX3_badCharters_29 ?_)))
      exact r_sub C [2, 1, 0] rfl (hLA4 _ _ _ _ hw)
    refine r_if_le (tgt := 23) C (by decide) dX3_badCharters_16 (fun hc5 => ?_) (fun hc5 => ?_)
    · have hJ6 := hJ
      try simp only [if_pos hc5] at hJ6
      refine r_iconst (v := (0 : Int32)) C (by decide) dX3_badCharters_23 ?_
      exact r_sub C [0, 2] rfl hJ6
    · have hJ6 := hJ
      try simp only [if_neg hc5] at hJ6
      refine r_iconst (v := (1 : Int32)) C (by decide) dX3_badCharters_19 (r_goto (tgt := 24) C (by decide) dX3_badCharters_20 ?_)
      exact r_sub C [0, 2] rfl hJ6
theorem b_X3_badCharters_4 {G : gT} {l : Launch} {V : Hp → Nat → Nat → Nat → List (Nat × Value) → List Value → Prop} {Q : Int32 → Hp → Prop} (C : Cx G l V cX3_badCharters 3 RX3 9 201 0 0 (pI Q) none (some .int) [] false) : ∀ (k : Nat) (h : Hp) (x0 : Nat) (x1 : Int32) (x2 : Int32), B_X3_badCharters_4 Q k h x0 x1 x2 → V h 0 0 4 [(0, .ref x0), (1, .int x1), (2, .int x2)] [] := by
  intro k
  induction k with
  | zero =>
    intro h x0 x1 x2 hw
    exact hw.elim
  | succ k ih =>
    intro h x0 x1 x2 hw
    exact s_X3_badCharters_4 C _ (fun h x0 x1 x2 hw => ih h x0 x1 x2 hw) h x0 x1 x2 hw
theorem sg_X3_badCharters : ySg yX3_badCharters 0 = true := by decide +kernel
theorem c_X3_badCharters (G : gT) (l : Launch) (a0 : Nat) (h : Hp) (Q : Int32 → Hp → Prop) (hw : w_X3_badCharters a0 h Q) : Ct G l yX3_badCharters (ws_ yX3_badCharters cX3_badCharters 3 (some .int)) 9 201 0 0 [.ref a0] h (pI Q) := by
  refine Ct.of (own := RX3) false (by decide +kernel) rfl (show (_ : Nat) ≤ _ from Nat.le_of_ble_eq_true rfl) (fun z => by cases z) (fun V C => ?_)
  show V h 0 0 0 [(0, .ref a0)] []
  unfold w_X3_badCharters at hw
  refine r_iconst (v := (0 : Int32)) C (by decide) dX3_badCharters_0 (r_istore_n (L' := [(1, .int (0 : Int32)), (0, .ref a0)]) C rfl (by decide) rfl dX3_badCharters_1 (r_iconst (v := (0 : Int32)) C (by decide) dX3_badCharters_2 (r_istore_n (L' := [(2, .int (0 : Int32)), (1, .int (0 : Int32)), (0, .ref a0)]) C rfl (by decide) rfl dX3_badCharters_3 ?_)))
  obtain ⟨k9, hw⟩ := hw
  exact r_sub C [2, 1, 0] rfl (b_X3_badCharters_4 C _ _ _ _ _ hw)
def S_X3_fakes_4 (Q : Int32 → Hp → Prop) (LA4 : Hp → Nat → Nat → Int32 → Int32 → Prop) (h : Hp) (x0 : Nat) (x1 : Nat) (x2 : Int32) (x3 : Int32) : Prop :=
  rdI h x1 (2 : Int32) (fun v1 => (v1 ≤ x3 → Q x2 h) ∧ (¬ v1 ≤ x3 → hasC h x0 2 ∧ (w_X3_fake x0 x1 x3 h (fun r4 h5 => LA4 h5 x0 x1 (x2 + (bI (if r4 ≤ 0 then false else true))) (x3 + (1 : Int32))))))
def B_X3_fakes_4 (Q : Int32 → Hp → Prop) : Nat → Hp → Nat → Nat → Int32 → Int32 → Prop
  | 0, _, _, _, _, _ => False
  | k + 1, h, x0, x1, x2, x3 => S_X3_fakes_4 Q (B_X3_fakes_4 Q k) h x0 x1 x2 x3
def w_X3_fakes (a0 : Nat) (a1 : Nat) (h : Hp) (Q : Int32 → Hp → Prop) : Prop :=
  ∃ k9 : Nat, B_X3_fakes_4 Q k9 h a0 a1 (0 : Int32) (0 : Int32)
theorem s_X3_fakes_4 {G : gT} {l : Launch} {V : Hp → Nat → Nat → Nat → List (Nat × Value) → List Value → Prop} {Q : Int32 → Hp → Prop} (C : Cx G l V cX3_fakes 4 RX3 8 178 0 0 (pI Q) none (some .int) [] false) (LA4 : Hp → Nat → Nat → Int32 → Int32 → Prop) (hLA4 : ∀ (h : Hp) (x0 : Nat) (x1 : Nat) (x2 : Int32) (x3 : Int32), LA4 h x0 x1 x2 x3 → V h 0 0 4 [(0, .ref x0), (1, .ref x1), (2, .int x2), (3, .int x3)] []) (h : Hp) (x0 : Nat) (x1 : Nat) (x2 : Int32) (x3 : Int32) (hw : S_X3_fakes_4 Q LA4 h x0 x1 x2 x3) : V h 0 0 4 [(0, .ref x0), (1, .ref x1), (2, .int x2), (3, .int x3)] [] := by
  unfold S_X3_fakes_4 at hw
  refine r_iload_n C rfl 3 rfl dX3_fakes_4 (r_aload_n C rfl 1 rfl dX3_fakes_5 (r_iconst (v := (2 : Int32)) C (by decide) dX3_fakes_6 ?_))
  refine r_iaload C dX3_fakes_7 hw (fun v1 hw => ?_)
  refine r_icmp_ge (tgt := 34) C (by decide) dX3_fakes_8 (fun hc2 => ?_) (fun hc2 => ?_)
  · have hw := hw.1 hc2
    refine r_iload_n C rfl 2 rfl dX3_fakes_34 ?_
    exact r_ireturn C dX3_fakes_35 (Nat.le_refl _) (Nat.le_refl _) ⟨_, rfl, hw⟩
  · have hw := hw.2 hc2
    refine r_iload_n C rfl 2 rfl dX3_fakes_11 (r_aload_n C rfl 0 rfl dX3_fakes_12 (r_aload_n C rfl 1 rfl dX3_fakes_13 (r_iload_n C rfl 3 rfl dX3_fakes_14 ?_)))
    obtain ⟨hq3, hw⟩ := hw
    refine r_callV (ci := 2) (rest := [.int x2]) (As := [.ref x1, .int x3]) C sg_X3_fake rfl rfl q2339 q2341 qs54 q90 q2342 rfl (Nat.le_of_ble_eq_true rfl) dX3_fakes_15 rfl hq3 (Nat.le_refl _) (Nat.le_refl _) (c_X3_fake G l x0 x1 x3 h _ hw) (k_I (fun r4 h5 hw => ?_))
    have hJ : V h5 0 0 26 [(0, .ref x0), (1, .ref x1), (3, .int x3)] [.int (bI (if r4 ≤ 0 then false else true)), .int x2] := by
      refine r_iadd C dX3_fakes_26 (r_istore_n (L' := [(2, .int (x2 + (bI (if r4 ≤ 0 then false else true)))), (0, .ref x0), (1, .ref x1), (3, .int x3)]) C rfl (by decide) rfl dX3_fakes_27 (r_iinc (v := x3 + (1 : Int32)) (L' := [(3, .int (x3 + (1 : Int32))), (2, .int (x2 + (bI (if r4 ≤ 0 then false else true)))), (0, .ref x0), (1, .ref x1)]) C (u := 3) rfl (by rfl) (by decide) rfl dX3_fakes_28 (r_goto (tgt := 4) C (by decide) dX3_fakes_31 ?_)))
      exact r_sub C [2, 3, 1, 0] rfl (hLA4 _ _ _ _ _ hw)
    refine r_if_le (tgt := 25) C (by decide) dX3_fakes_18 (fun hc6 => ?_) (fun hc6 => ?_)
    · have hJ7 := hJ
      try simp only [if_pos hc6] at hJ7
      refine r_iconst (v := (0 : Int32)) C (by decide) dX3_fakes_25 ?_
      exact r_sub C [0, 1, 3] rfl hJ7
    · have hJ7 := hJ
      try simp only [if_neg hc6] at hJ7
      refine r_iconst (v := (1 : Int32)) C (by decide) dX3_fakes_21 (r_goto (tgt := 26) C (by decide) dX3_fakes_22 ?_)
      exact r_sub C [0, 1, 3] rfl hJ7
theorem b_X3_fakes_4 {G : gT} {l : Launch} {V : Hp → Nat → Nat → Nat → List (Nat × Value) → List Value → Prop} {Q : Int32 → Hp → Prop} (C : Cx G l V cX3_fakes 4 RX3 8 178 0 0 (pI Q) none (some .int) [] false) : ∀ (k : Nat) (h : Hp) (x0 : Nat) (x1 : Nat) (x2 : Int32) (x3 : Int32), B_X3_fakes_4 Q k h x0 x1 x2 x3 → V h 0 0 4 [(0, .ref x0), (1, .ref x1), (2, .int x2), (3, .int x3)] [] := by
  intro k
  induction k with
  | zero =>
    intro h x0 x1 x2 x3 hw
    exact hw.elim
  | succ k ih =>
    intro h x0 x1 x2 x3 hw
    exact s_X3_fakes_4 C _ (fun h x0 x1 x2 x3 hw => ih h x0 x1 x2 x3 hw) h x0 x1 x2 x3 hw
theorem sg_X3_fakes : ySg yX3_fakes 1 = true := by decide +kernel
theorem c_X3_fakes (G : gT) (l : Launch) (a0 : Nat) (a1 : Nat) (h : Hp) (Q : Int32 → Hp → Prop) (hw : w_X3_fakes a0 a1 h Q) : Ct G l yX3_fakes (ws_ yX3_fakes cX3_fakes 4 (some .int)) 8 178 0 0 [.ref a0, .ref a1] h (pI Q) := by
  refine Ct.of (own := RX3) false (by decide +kernel) rfl (show (_ : Nat) ≤ _ from Nat.le_of_ble_eq_true rfl) (fun z => by cases z) (fun V C => ?_)
  show V h 0 0 0 [(0, .ref a0), (1, .ref a1)] []
  unfold w_X3_fakes at hw
  refine r_iconst (v := (0 : Int32)) C (by decide) dX3_fakes_0 (r_istore_n (L' := [(2, .int (0 : Int32)), (0, .ref a0), (1, .ref a1)]) C rfl (by decide) rfl dX3_fakes_1 (r_iconst (v := (0 : Int32)) C (by decide) dX3_fakes_2 (r_istore_n (L' := [(3, .int (0 : Int32)), (2, .int (0 : Int32)), (0, .ref a0), (1, .ref a1)]) C rfl (by decide) rfl dX3_fakes_3 ?_)))
  obtain ⟨k9, hw⟩ := hw
  exact r_sub C [2, 3, 1, 0] rfl (b_X3_fakes_4 C _ _ _ _ _ _ hw)
def w_X3_about (a0 : Nat) (i1 : Int32) (h : Hp) (Q : Int32 → Hp → Prop) : Prop :=
  w_X3_in i1.toInt64 (0 : Int64) (8 : Int64) h (fun r1 h2 => hasC h2 a0 2 ∧ (w_X3_refused a0 (bI (if r1 = false then true else false)) h2 (fun r4 h5 => (r4 = false → (i1.toInt < 0 ∨ 8 < i1.toInt → hasC h5 a0 2 ∧ (w_X3_countOf a0 i1 h5 (fun r39 h40 => Q r39 h40))) ∧ (i1 = (0 : Int32) → gfR h5 a0 2 1 (fun v7 => nn v7 (fun y8 => rdI h5 y8 (0 : Int32) (fun v9 => Q v9 h5)))) ∧ (i1 = (1 : Int32) → gfR h5 a0 2 1 (fun v10 => nn v10 (fun y11 => rdI h5 y11 (1 : Int32) (fun v12 => Q v12 h5)))) ∧ (i1 = (2 : Int32) → gfR h5 a0 2 1 (fun v13 => nn v13 (fun y14 => rdI h5 y14 (2 : Int32) (fun v15 => Q v15 h5)))) ∧ (i1 = (3 : Int32) → gfR h5 a0 2 1 (fun v16 => nn v16 (fun y17 => hasC h5 a0 2 ∧ (w_X3_fakes a0 y17 h5 (fun r19 h20 => Q r19 h20))))) ∧ (i1 = (4 : Int32) → hasC h5 a0 2 ∧ (w_X3_countOf a0 i1 h5 (fun r22 h23 => Q r22 h23))) ∧ (i1 = (5 : Int32) → hasC h5 a0 2 ∧ (w_X3_countOf a0 i1 h5 (fun r25 h26 => Q r25 h26))) ∧ (i1 = (6 : Int32) → hasC h5 a0 2 ∧ (w_X3_badCharters a0 h5 (fun r28 h29 => Q r28 h29))) ∧ (i1 = (7 : Int32) → hasC h5 a0 2 ∧ (w_X3_countOf a0 i1 h5 (fun r31 h32 => Q r31 h32))) ∧ (i1 = (8 : Int32) → gfR h5 a0 2 1 (fun v33 => nn v33 (fun y34 => hasC h5 a0 2 ∧ (w_X3_bad a0 y34 h5 (fun r36 h37 => Q r36 h37)))))) ∧ (r4 = true → Q (0 : Int32) h5))))
theorem sg_X3_about : ySg yX3_about 1 = true := by decide +kernel
theorem c_X3_about (G : gT) (l : Launch) (a0 : Nat) (i1 : Int32) (h : Hp) (Q : Int32 → Hp → Prop) (hw : w_X3_about a0 i1 h Q) : Ct G l yX3_about (ws_ yX3_about cX3_about 2 (some .int)) 10 227 0 0 [.ref a0, .int i1] h (pI Q) := by
  refine Ct.of (own := RX3) false (by decide +kernel) rfl (show (_ : Nat) ≤ _ from Nat.le_of_ble_eq_true rfl) (fun z => by cases z) (fun V C => ?_)
  show V h 0 0 0 [(0, .ref a0), (1, .int i1)] []
  unfold w_X3_about at hw
  refine r_aload_n C rfl 0 rfl dX3_about_0 (r_iload_n C rfl 1 rfl dX3_about_1 (r_i2l C dX3_about_2 (r_lconst (v := (0 : Int64)) C (by decide) dX3_about_3 (r_ldc2 (v := (8 : Int64)) C q2334 dX3_about_4 ?_))))
  refine r_callS (rest := [.ref a0]) (As := [.long i1.toInt64, .long (0 : Int64), .long (8 : Int64)]) C sg_X3_in q2219 q2220 q90 q2221 rfl (Nat.le_of_ble_eq_true rfl) dX3_about_7 rfl (Nat.le_refl _) (Nat.le_refl _) (c_X3_in G l i1.toInt64 (0 : Int64) (8 : Int64) h _ hw) (k_Z (fun r1 h2 hw => ?_))
  have hJ : V h2 0 0 18 [(0, .ref a0), (1, .int i1)] [.int (bI (if r1 = false then true else false)), .ref a0] := by
    obtain ⟨hq3, hw⟩ := hw
    refine r_callV (ci := 2) (rest := []) (As := [.int (bI (if r1 = false then true else false))]) C sg_X3_refused rfl rfl q2222 q2224 qs38 q90 q2225 rfl (Nat.le_of_ble_eq_true rfl) dX3_about_18 rfl hq3 (Nat.le_refl _) (Nat.le_refl _) (c_X3_refused G l a0 (bI (if r1 = false then true else false)) h2 _ hw) (k_Z (fun r4 h5 hw => ?_))
    refine r_if_eq_b (tgt := 26) C (by decide) dX3_about_21 (fun hc6 => ?_) (fun hc6 => ?_)
    · have hw := hw.1 hc6
      refine r_iload_n C rfl 1 rfl dX3_about_26 ?_
      by_cases hd41 : i1.toInt < 0 ∨ 8 < i1.toInt
      · have hw := hw.1 hd41
        refine r_tableOut (tgt := 120) C hd41 (by decide) dX3_about_27 ?_
        refine r_aload_n C rfl 0 rfl dX3_about_120 (r_iload_n C rfl 1 rfl dX3_about_121 ?_)
        obtain ⟨hq38, hw⟩ := hw
        refine r_callV (ci := 2) (rest := []) (As := [.int i1]) C sg_X3_countOf rfl rfl q2394 q2396 qs61 q90 q2397 rfl (Nat.le_of_ble_eq_true rfl) dX3_about_122 rfl hq38 (Nat.le_refl _) (Nat.le_refl _) (c_X3_countOf G l a0 i1 h5 _ hw) (k_I (fun r39 h40 hw => ?_))
        exact r_ireturn C dX3_about_125 (Nat.le_refl _) (Nat.le_refl _) ⟨_, rfl, hw⟩
      · obtain ⟨k9, hk9, e9⟩ := tb_k 9 (by decide) hd41
        match k9, hk9, e9 with
        | 0, _, e9 =>
          have e9 : i1 = (0 : Int32) := e9.trans (by decide)
          have hw := hw.2.1 e9
          refine r_tableAt (k := (0 : Int32)) (off := 49) (tgt := 76) C e9 (by decide) (by decide) (by decide) (by decide) dX3_about_27 ?_
          refine r_aload_n C rfl 0 rfl dX3_about_76 ?_
          refine r_gfR (k := 1) C kX3 (by decide) (Or.inl q2156) (Or.inl rfl) dX3_about_77 hw (fun v7 hw => ?_)
          refine r_iconst (v := (0 : Int32)) C (by decide) dX3_about_80 ?_
          obtain ⟨y8, rfl, hw_y8⟩ := hw
          have hw := hw_y8
          refine r_iaload C dX3_about_81 hw (fun v9 hw => ?_)
          exact r_ireturn C dX3_about_82 (Nat.le_refl _) (Nat.le_refl _) ⟨_, rfl, hw⟩
        | 1, _, e9 =>
          have e9 : i1 = (1 : Int32) := e9.trans (by decide)
          have hw := hw.2.2.1 e9
          refine r_tableAt (k := (1 : Int32)) (off := 56) (tgt := 83) C e9 (by decide) (by decide) (by decide) (by decide) dX3_about_27 ?_
          refine r_aload_n C rfl 0 rfl dX3_about_83 ?_
          refine r_gfR (k := 1) C kX3 (by decide) (Or.inl q2156) (Or.inl rfl) dX3_about_84 hw (fun v10 hw => ?_)
          refine r_iconst (v := (1 : Int32)) C (by decide) dX3_about_87 ?_
          obtain ⟨y11, rfl, hw_y11⟩ := hw
          have hw := hw_y11
          refine r_iaload C dX3_about_88 hw (fun v12 hw => ?_)
          exact r_ireturn C dX3_about_89 (Nat.le_refl _) (Nat.le_refl _) ⟨_, rfl, hw⟩
        | 2, _, e9 =>
          have e9 : i1 = (2 : Int32) := e9.trans (by decide)
          have hw := hw.2.2.2.1 e9
          refine r_tableAt (k := (2 : Int32)) (off := 63) (tgt := 90) C e9 (by decide) (by decide) (by decide) (by decide) dX3_about_27 ?_
          refine r_aload_n C rfl 0 rfl dX3_about_90 ?_
          refine r_gfR (k := 1) C kX3 (by decide) (Or.inl q2156) (Or.inl rfl) dX3_about_91 hw (fun v13 hw => ?_)
          refine r_iconst (v := (2 : Int32)) C (by decide) dX3_about_94 ?_
          obtain ⟨y14, rfl, hw_y14⟩ := hw
          have hw := hw_y14
          refine r_iaload C dX3_about_95 hw (fun v15 hw => ?_)
          exact r_ireturn C dX3_about_96 (Nat.le_refl _) (Nat.le_refl _) ⟨_, rfl, hw⟩
        | 3, _, e9 =>
          have e9 : i1 = (3 : Int32) := e9.trans (by decide)
          have hw := hw.2.2.2.2.1 e9
          refine r_tableAt (k := (3 : Int32)) (off := 70) (tgt := 97) C e9 (by decide) (by decide) (by decide) (by decide) dX3_about_27 ?_
          refine r_aload_n C rfl 0 rfl dX3_about_97 (r_aload_n C rfl 0 rfl dX3_about_98 ?_)
          refine r_gfR (k := 1) C kX3 (by decide) (Or.inl q2156) (Or.inl rfl) dX3_about_99 hw (fun v16 hw => ?_)
          obtain ⟨y17, rfl, hw_y17⟩ := hw
          have hw := hw_y17
          obtain ⟨hq18, hw⟩ := hw
          refine r_callV (ci := 2) (rest := []) (As := [.ref y17]) C sg_X3_fakes rfl rfl q2335 q2337 qs53 q90 q2338 rfl (Nat.le_of_ble_eq_true rfl) dX3_about_102 rfl hq18 (Nat.le_refl _) (Nat.le_refl _) (c_X3_fakes G l a0 y17 h5 _ hw) (k_I (fun r19 h20 hw => ?_))
          exact r_ireturn C dX3_about_105 (Nat.le_refl _) (Nat.le_refl _) ⟨_, rfl, hw⟩
        | 4, _, e9 =>
          have e9 : i1 = (4 : Int32) := e9.trans (by decide)
          have hw := hw.2.2.2.2.2.1 e9
          refine r_tableAt (k := (4 : Int32)) (off := 93) (tgt := 120) C e9 (by decide) (by decide) (by decide) (by decide) dX3_about_27 ?_
          refine r_aload_n C rfl 0 rfl dX3_about_120 (r_iload_n C rfl 1 rfl dX3_about_121 ?_)
          obtain ⟨hq21, hw⟩ := hw
          refine r_callV (ci := 2) (rest := []) (As := [.int i1]) C sg_X3_countOf rfl rfl q2394 q2396 qs61 q90 q2397 rfl (Nat.le_of_ble_eq_true rfl) dX3_about_122 rfl hq21 (Nat.le_refl _) (Nat.le_refl _) (c_X3_countOf G l a0 i1 h5 _ hw) (k_I (fun r22 h23 hw => ?_))
          exact r_ireturn C dX3_about_125 (Nat.le_refl _) (Nat.le_refl _) ⟨_, rfl, hw⟩
        | 5, _, e9 =>
          have e9 : i1 = (5 : Int32) := e9.trans (by decide)
          have hw := hw.2.2.2.2.2.2.1 e9
          refine r_tableAt (k := (5 : Int32)) (off := 93) (tgt := 120) C e9 (by decide) (by decide) (by decide) (by decide) dX3_about_27 ?_
          refine r_aload_n C rfl 0 rfl dX3_about_120 (r_iload_n C rfl 1 rfl dX3_about_121 ?_)
          obtain ⟨hq24, hw⟩ := hw
          refine r_callV (ci := 2) (rest := []) (As := [.int i1]) C sg_X3_countOf rfl rfl q2394 q2396 qs61 q90 q2397 rfl (Nat.le_of_ble_eq_true rfl) dX3_about_122 rfl hq24 (Nat.le_refl _) (Nat.le_refl _) (c_X3_countOf G l a0 i1 h5 _ hw) (k_I (fun r25 h26 hw => ?_))
          exact r_ireturn C dX3_about_125 (Nat.le_refl _) (Nat.le_refl _) ⟨_, rfl, hw⟩
        | 6, _, e9 =>
          have e9 : i1 = (6 : Int32) := e9.trans (by decide)
          have hw := hw.2.2.2.2.2.2.2.1 e9
          refine r_tableAt (k := (6 : Int32)) (off := 79) (tgt := 106) C e9 (by decide) (by decide) (by decide) (by decide) dX3_about_27 ?_
          refine r_aload_n C rfl 0 rfl dX3_about_106 ?_
          obtain ⟨hq27, hw⟩ := hw
          refine r_callV (ci := 2) (rest := []) (As := []) C sg_X3_badCharters rfl rfl q2378 q2380 qs57 q90 q2381 rfl (Nat.le_of_ble_eq_true rfl) dX3_about_107 rfl hq27 (Nat.le_refl _) (Nat.le_refl _) (c_X3_badCharters G l a0 h5 _ hw) (k_I (fun r28 h29 hw => ?_))
          exact r_ireturn C dX3_about_110 (Nat.le_refl _) (Nat.le_refl _) ⟨_, rfl, hw⟩
        | 7, _, e9 =>
          have e9 : i1 = (7 : Int32) := e9.trans (by decide)
          have hw := hw.2.2.2.2.2.2.2.2.1 e9
          refine r_tableAt (k := (7 : Int32)) (off := 93) (tgt := 120) C e9 (by decide) (by decide) (by decide) (by decide) dX3_about_27 ?_
          refine r_aload_n C rfl 0 rfl dX3_about_120 (r_iload_n C rfl 1 rfl dX3_about_121 ?_)
          obtain ⟨hq30, hw⟩ := hw
          refine r_callV (ci := 2) (rest := []) (As := [.int i1]) C sg_X3_countOf rfl rfl q2394 q2396 qs61 q90 q2397 rfl (Nat.le_of_ble_eq_true rfl) dX3_about_122 rfl hq30 (Nat.le_refl _) (Nat.le_refl _) (c_X3_countOf G l a0 i1 h5 _ hw) (k_I (fun r31 h32 hw => ?_))
          exact r_ireturn C dX3_about_125 (Nat.le_refl _) (Nat.le_refl _) ⟨_, rfl, hw⟩
        | 8, _, e9 =>
          have e9 : i1 = (8 : Int32) := e9.trans (by decide)
          have hw := hw.2.2.2.2.2.2.2.2.2 e9
          refine r_tableAt (k := (8 : Int32)) (off := 84) (tgt := 111) C e9 (by decide) (by decide) (by decide) (by decide) dX3_about_27 ?_
          refine r_aload_n C rfl 0 rfl dX3_about_111 (r_aload_n C rfl 0 rfl dX3_about_112 ?_)
          refine r_gfR (k := 1) C kX3 (by decide) (Or.inl q2156) (Or.inl rfl) dX3_about_113 hw (fun v33 hw => ?_)
          obtain ⟨y34, rfl, hw_y34⟩ := hw
          have hw := hw_y34
          obtain ⟨hq35, hw⟩ := hw
          refine r_callV (ci := 2) (rest := []) (As := [.ref y34]) C sg_X3_bad rfl rfl q2386 q2388 qs59 q90 q2389 rfl (Nat.le_of_ble_eq_true rfl) dX3_about_116 rfl hq35 (Nat.le_refl _) (Nat.le_refl _) (c_X3_bad G l a0 y34 h5 _ hw) (k_I (fun r36 h37 hw => ?_))
          exact r_ireturn C dX3_about_119 (Nat.le_refl _) (Nat.le_refl _) ⟨_, rfl, hw⟩
        | k9 + 9, hk9, _ => exact absurd hk9 (by omega)
    · have hw := hw.2 hc6
      refine r_iconst (v := (0 : Int32)) C (by decide) dX3_about_24 ?_
      exact r_ireturn C dX3_about_25 (Nat.le_refl _) (Nat.le_refl _) ⟨_, rfl, hw⟩
  refine r_if_eq_b (tgt := 17) C (by decide) dX3_about_10 (fun hc42 => ?_) (fun hc42 => ?_)
  · have hJ43 := hJ
    try simp only [if_pos hc42] at hJ43
    refine r_iconst (v := (1 : Int32)) C (by decide) dX3_about_17 ?_
    exact r_sub C [0, 1] rfl hJ43
  · have hJ43 := hJ
    try simp only [if_neg (show ¬ r1 = false from by rw [hc42]; decide)] at hJ43
    refine r_iconst (v := (0 : Int32)) C (by decide) dX3_about_13 (r_goto (tgt := 18) C (by decide) dX3_about_14 ?_)
    exact r_sub C [0, 1] rfl hJ43
def w_X3_hasReign (a0 : Nat) (i1 : Int32) (h : Hp) (Q : Bool → Hp → Prop) : Prop :=
  rdI h a0 (0 : Int32) (fun v1 => w_X3_in i1.toInt64 (0 : Int64) ((v1 - (1 : Int32)).toInt64) h (fun r2 h3 => Q r2 h3))
theorem sg_X3_hasReign : ySg yX3_hasReign 2 = true := by decide +kernel
theorem c_X3_hasReign (G : gT) (l : Launch) (a0 : Nat) (i1 : Int32) (h : Hp) (Q : Bool → Hp → Prop) (hw : w_X3_hasReign a0 i1 h Q) : Ct G l yX3_hasReign (ws_ yX3_hasReign cX3_hasReign 2 (some .boolean)) 2 37 0 0 [.ref a0, .int i1] h (pZ Q) := by
  refine Ct.of (own := RX3) false (by decide +kernel) rfl (show (_ : Nat) ≤ _ from Nat.le_of_ble_eq_true rfl) (fun z => by cases z) (fun V C => ?_)
  show V h 0 0 0 [(0, .ref a0), (1, .int i1)] []
  unfold w_X3_hasReign at hw
  refine r_iload_n C rfl 1 rfl dX3_hasReign_0 (r_i2l C dX3_hasReign_1 (r_lconst (v := (0 : Int64)) C (by decide) dX3_hasReign_2 (r_aload_n C rfl 0 rfl dX3_hasReign_3 (r_iconst (v := (0 : Int32)) C (by decide) dX3_hasReign_4 ?_))))
  refine r_iaload C dX3_hasReign_5 hw (fun v1 hw => ?_)
  refine r_iconst (v := (1 : Int32)) C (by decide) dX3_hasReign_6 (r_isub C dX3_hasReign_7 (r_i2l C dX3_hasReign_8 ?_))
  refine r_callS (rest := []) (As := [.long i1.toInt64, .long (0 : Int64), .long ((v1 - (1 : Int32)).toInt64)]) C sg_X3_in q2219 q2220 q90 q2221 rfl (Nat.le_of_ble_eq_true rfl) dX3_hasReign_9 rfl (Nat.le_refl _) (Nat.le_refl _) (c_X3_in G l i1.toInt64 (0 : Int64) ((v1 - (1 : Int32)).toInt64) h _ hw) (k_Z (fun r2 h3 hw => ?_))
  exact r_zreturn (x := r2) C dX3_hasReign_12 (Nat.le_refl _) (Nat.le_refl _) ⟨_, rfl, hw⟩
def B_X3_ofReign_33 (Q : Int32 → Hp → Prop) (h : Hp) (x0 : Nat) (x1 : Int32) (x2 : Int32) (s0 : Nat) (s1 : Int32) : Prop :=
  hasC h s0 2 ∧ (w_X3_refused s0 s1 h (fun r2 h3 => (r2 = false → (¬ x2 = 0 → (¬ x2 = (1 : Int32) → gfR h3 x0 2 1 (fun v7 => nn v7 (fun y8 => rdI h3 y8 ((15 : Int32) + x1) (fun v9 => Q v9 h3)))) ∧ (x2 = (1 : Int32) → gfR h3 x0 2 1 (fun v10 => nn v10 (fun y11 => w_X3_ends y11 x1 h3 (fun r12 h13 => Q r12 h13))))) ∧ (x2 = 0 → gfR h3 x0 2 1 (fun v14 => nn v14 (fun y15 => rdI h3 y15 ((5 : Int32) + x1) (fun v16 => Q v16 h3))))) ∧ (r2 = true → Q (0 : Int32) h3)))
def w_X3_ofReign (a0 : Nat) (i1 : Int32) (i2 : Int32) (h : Hp) (Q : Int32 → Hp → Prop) : Prop :=
  gfR h a0 2 1 (fun v17 => nn v17 (fun y18 => w_X3_hasReign y18 i1 h (fun r19 h20 => (r19 = true → w_X3_in i2.toInt64 (0 : Int64) (2 : Int64) h20 (fun r22 h23 => B_X3_ofReign_33 Q h23 a0 i1 i2 a0 (if r22 = true then (0 : Int32) else (2 : Int32)))) ∧ (r19 = false → B_X3_ofReign_33 Q h20 a0 i1 i2 a0 (1 : Int32)))))
theorem b_X3_ofReign_33 {G : gT} {l : Launch} {V : Hp → Nat → Nat → Nat → List (Nat × Value) → List Value → Prop} {Q : Int32 → Hp → Prop} (C : Cx G l V cX3_ofReign 3 RX3 3 58 0 0 (pI Q) none (some .int) [] false) (h : Hp) (x0 : Nat) (x1 : Int32) (x2 : Int32) (s0 : Nat) (s1 : Int32) (hw : B_X3_ofReign_33 Q h x0 x1 x2 s0 s1) : V h 0 0 33 [(0, .ref x0), (1, .int x1), (2, .int x2)] [.int s1, .ref s0] := by
  unfold B_X3_ofReign_33 at hw
  obtain ⟨hq1, hw⟩ := hw
  refine r_callV (ci := 2) (rest := []) (As := [.int s1]) C sg_X3_refused rfl rfl q2222 q2224 qs38 q90 q2225 rfl (Nat.le_of_ble_eq_true rfl) dX3_ofReign_33 rfl hq1 (Nat.le_refl _) (Nat.le_refl _) (c_X3_refused G l s0 s1 h _ hw) (k_Z (fun r2 h3 hw => ?_))
  refine r_if_eq_b (tgt := 41) C (by decide) dX3_ofReign_36 (fun hc4 => ?_) (fun hc4 => ?_)
  · have hw := hw.1 hc4
    refine r_iload_n C rfl 2 rfl dX3_ofReign_41 ?_
    refine r_if_ne (tgt := 56) C (by decide) dX3_ofReign_42 (fun hc5 => ?_) (fun hc5 => ?_)
    · have hw := hw.1 hc5
      refine r_iload_n C rfl 2 rfl dX3_ofReign_56 (r_iconst (v := (1 : Int32)) C (by decide) dX3_ofReign_57 ?_)
      refine r_icmp_ne (tgt := 72) C (by decide) dX3_ofReign_58 (fun hc6 => ?_) (fun hc6 => ?_)
      · have hw := hw.1 hc6
        refine r_aload_n C rfl 0 rfl dX3_ofReign_72 ?_
        refine r_gfR (k := 1) C kX3 (by decide) (Or.inl q2156) (Or.inl rfl) dX3_ofReign_73 hw (fun v7 hw => ?_)
        refine r_bipush (v := (15 : Int32)) C (by decide) dX3_ofReign_76 (r_iload_n C rfl 1 rfl dX3_ofReign_78 (r_iadd C dX3_ofReign_79 ?_))
        obtain ⟨y8, rfl, hw_y8⟩ := hw
        have hw := hw_y8
        refine r_iaload C dX3_ofReign_80 hw (fun v9 hw => ?_)
        exact r_ireturn C dX3_ofReign_81 (Nat.le_refl _) (Nat.le_refl _) ⟨_, rfl, hw⟩
      · have hw := hw.2 hc6
        refine r_aload_n C rfl 0 rfl dX3_ofReign_61 ?_
        refine r_gfR (k := 1) C kX3 (by decide) (Or.inl q2156) (Or.inl rfl) dX3_ofReign_62 hw (fun v10 hw => ?_)
        refine r_iload_n C rfl 1 rfl dX3_ofReign_65 ?_
        obtain ⟨y11, rfl, hw_y11⟩ := hw
        have hw := hw_y11
        refine r_callS (rest := []) (As := [.ref y11, .int x1]) C sg_X3_ends q2355 q2356 q90 q2357 rfl (Nat.le_of_ble_eq_true rfl) dX3_ofReign_66 rfl (Nat.le_refl _) (Nat.le_refl _) (c_X3_ends G l y11 x1 h3 _ hw) (k_I (fun r12 h13 hw => ?_))
        refine r_goto (tgt := 81) C (by decide) dX3_ofReign_69 ?_
        exact r_ireturn C dX3_ofReign_81 (Nat.le_refl _) (Nat.le_refl _) ⟨_, rfl, hw⟩
    · have hw := hw.2 hc5
      refine r_aload_n C rfl 0 rfl dX3_ofReign_45 ?_
      refine r_gfR (k := 1) C kX3 (by decide) (Or.inl q2156) (Or.inl rfl) dX3_ofReign_46 hw (fun v14 hw => ?_)
      refine r_iconst (v := (5 : Int32)) C (by decide) dX3_ofReign_49 (r_iload_n C rfl 1 rfl dX3_ofReign_50 (r_iadd C dX3_ofReign_51 ?_))
      obtain ⟨y15, rfl, hw_y15⟩ := hw
      have hw := hw_y15
      refine r_iaload C dX3_ofReign_52 hw (fun v16 hw => ?_)
      refine r_goto (tgt := 81) C (by decide) dX3_ofReign_53 ?_
      exact r_ireturn C dX3_ofReign_81 (Nat.le_refl _) (Nat.le_refl _) ⟨_, rfl, hw⟩
  · have hw := hw.2 hc4
    refine r_iconst (v := (0 : Int32)) C (by decide) dX3_ofReign_39 ?_
    exact r_ireturn C dX3_ofReign_40 (Nat.le_refl _) (Nat.le_refl _) ⟨_, rfl, hw⟩
theorem sg_X3_ofReign : ySg yX3_ofReign 2 = true := by decide +kernel
theorem c_X3_ofReign (G : gT) (l : Launch) (a0 : Nat) (i1 : Int32) (i2 : Int32) (h : Hp) (Q : Int32 → Hp → Prop) (hw : w_X3_ofReign a0 i1 i2 h Q) : Ct G l yX3_ofReign (ws_ yX3_ofReign cX3_ofReign 3 (some .int)) 3 58 0 0 [.ref a0, .int i1, .int i2] h (pI Q) := by
  refine Ct.of (own := RX3) false (by decide +kernel) rfl (show (_ : Nat) ≤ _ from Nat.le_of_ble_eq_true rfl) (fun z => by cases z) (fun V C => ?_)
  show V h 0 0 0 [(0, .ref a0), (1, .int i1), (2, .int i2)] []
  unfold w_X3_ofReign at hw
  refine r_aload_n C rfl 0 rfl dX3_ofReign_0 (r_aload_n C rfl 0 rfl dX3_ofReign_1 ?_)
  refine r_gfR (k := 1) C kX3 (by decide) (Or.inl q2156) (Or.inl rfl) dX3_ofReign_2 hw (fun v17 hw => ?_)
  refine r_iload_n C rfl 1 rfl dX3_ofReign_5 ?_
  obtain ⟨y18, rfl, hw_y18⟩ := hw
  have hw := hw_y18
  refine r_callS (rest := [.ref a0]) (As := [.ref y18, .int i1]) C sg_X3_hasReign q2408 q2409 q90 q2410 rfl (Nat.le_of_ble_eq_true rfl) dX3_ofReign_6 rfl (Nat.le_refl _) (Nat.le_refl _) (c_X3_hasReign G l y18 i1 h _ hw) (k_Z (fun r19 h20 hw => ?_))
  refine r_if_ne_b (tgt := 16) C (by decide) dX3_ofReign_9 (fun hc21 => ?_) (fun hc21 => ?_)
  · have hw := hw.1 hc21
    refine r_iload_n C rfl 2 rfl dX3_ofReign_16 (r_i2l C dX3_ofReign_17 (r_lconst (v := (0 : Int64)) C (by decide) dX3_ofReign_18 (r_ldc2 (v := (2 : Int64)) C q2411 dX3_ofReign_19 ?_)))
    refine r_callS (rest := [.ref a0]) (As := [.long i2.toInt64, .long (0 : Int64), .long (2 : Int64)]) C sg_X3_in q2219 q2220 q90 q2221 rfl (Nat.le_of_ble_eq_true rfl) dX3_ofReign_22 rfl (Nat.le_refl _) (Nat.le_refl _) (c_X3_in G l i2.toInt64 (0 : Int64) (2 : Int64) h20 _ hw) (k_Z (fun r22 h23 hw => ?_))
    have hJ : V h23 0 0 33 [(0, .ref a0), (1, .int i1), (2, .int i2)] [.int (if r22 = true then (0 : Int32) else (2 : Int32)), .ref a0] := by
      exact r_sub C [0, 1, 2] rfl (b_X3_ofReign_33 C _ _ _ _ _ _ hw)
    refine r_if_ne_b (tgt := 32) C (by decide) dX3_ofReign_25 (fun hc24 => ?_) (fun hc24 => ?_)
    · have hJ25 := hJ
      try simp only [if_pos hc24] at hJ25
      refine r_iconst (v := (0 : Int32)) C (by decide) dX3_ofReign_32 ?_
      exact r_sub C [0, 1, 2] rfl hJ25
    · have hJ25 := hJ
      try simp only [if_neg (show ¬ r22 = true from by rw [hc24]; decide)] at hJ25
      refine r_iconst (v := (2 : Int32)) C (by decide) dX3_ofReign_28 (r_goto (tgt := 33) C (by decide) dX3_ofReign_29 ?_)
      exact r_sub C [0, 1, 2] rfl hJ25
  · have hw := hw.2 hc21
    refine r_iconst (v := (1 : Int32)) C (by decide) dX3_ofReign_12 (r_goto (tgt := 33) C (by decide) dX3_ofReign_13 ?_)
    exact r_sub C [0, 1, 2] rfl (b_X3_ofReign_33 C _ _ _ _ _ _ hw)
def B_X3_sealsOf_53 (Q : Int32 → Hp → Prop) (LA5 : Hp → Nat → Int32 → Bool → Int32 → Int32 → Prop) (h : Hp) (x0 : Nat) (x1 : Int32) (x2 : Bool) (x4 : Int32) (s0 : Int32) (s1 : Bool) : Prop :=
  LA5 h x0 x1 x2 (s0 + (bI s1)) (x4 + (1 : Int32))
def S_X3_sealsOf_5 (Q : Int32 → Hp → Prop) (LA5 : Hp → Nat → Int32 → Bool → Int32 → Int32 → Prop) (h : Hp) (x0 : Nat) (x1 : Int32) (x2 : Bool) (x3 : Int32) (x4 : Int32) : Prop :=
  gfR h x0 2 1 (fun v1 => nn v1 (fun y2 => rdI h y2 (2 : Int32) (fun v3 => (v3 ≤ x4 → Q x3 h) ∧ (¬ v3 ≤ x4 → gfR h x0 2 1 (fun v5 => nn v5 (fun y6 => rdI h y6 ((105 : Int32) + x4) (fun v7 => (¬ v7 = x1 → B_X3_sealsOf_53 Q LA5 h x0 x1 x2 x4 x3 false) ∧ (v7 = x1 → (x2 = false → B_X3_sealsOf_53 Q LA5 h x0 x1 x2 x4 x3 true) ∧ (x2 = true → gfR h x0 2 1 (fun v10 => nn v10 (fun y11 => hasC h x0 2 ∧ (w_X3_fake x0 y11 x4 h (fun r13 h14 => B_X3_sealsOf_53 Q LA5 h14 x0 x1 x2 x4 x3 (if r13 ≤ 0 then false else true))))))))))))))
def B_X3_sealsOf_5 (Q : Int32 → Hp → Prop) : Nat → Hp → Nat → Int32 → Bool → Int32 → Int32 → Prop
  | 0, _, _, _, _, _, _ => False
  | k + 1, h, x0, x1, x2, x3, x4 => S_X3_sealsOf_5 Q (B_X3_sealsOf_5 Q k) h x0 x1 x2 x3 x4
def w_X3_sealsOf (a0 : Nat) (i1 : Int32) (b2 : Bool) (h : Hp) (Q : Int32 → Hp → Prop) : Prop :=
  ∃ k9 : Nat, B_X3_sealsOf_5 Q k9 h a0 i1 b2 (0 : Int32) (0 : Int32)
theorem b_X3_sealsOf_53 {G : gT} {l : Launch} {V : Hp → Nat → Nat → Nat → List (Nat × Value) → List Value → Prop} {Q : Int32 → Hp → Prop} (C : Cx G l V cX3_sealsOf 5 RX3 8 178 0 0 (pI Q) none (some .int) [] false) (LA5 : Hp → Nat → Int32 → Bool → Int32 → Int32 → Prop) (hLA5 : ∀ (h : Hp) (x0 : Nat) (x1 : Int32) (x2 : Bool) (x3 : Int32) (x4 : Int32), LA5 h x0 x1 x2 x3 x4 → V h 0 0 5 [(0, .ref x0), (1, .int x1), (2, .int (bI x2)), (3, .int x3), (4, .int x4)] []) (h : Hp) (x0 : Nat) (x1 : Int32) (x2 : Bool) (x4 : Int32) (s0 : Int32) (s1 : Bool) (hw : B_X3_sealsOf_53 Q LA5 h x0 x1 x2 x4 s0 s1) : V h 0 0 53 [(0, .ref x0), (1, .int x1), (2, .int (bI x2)), (4, .int x4)] [.int (bI s1), .int s0] := by
  unfold B_X3_sealsOf_53 at hw
  refine r_iadd C dX3_sealsOf_53 (r_istore_n (L' := [(3, .int (s0 + (bI s1))), (0, .ref x0), (1, .int x1), (2, .int (bI x2)), (4, .int x4)]) C rfl (by decide) rfl dX3_sealsOf_54 (r_iinc (v := x4 + (1 : Int32)) (L' := [(4, .int (x4 + (1 : Int32))), (3, .int (s0 + (bI s1))), (0, .ref x0), (1, .int x1), (2, .int (bI x2))]) C (u := 4) rfl (by rfl) (by decide) rfl dX3_sealsOf_55 (r_goto (tgt := 5) C (by decide) dX3_sealsOf_58 ?_)))
  exact r_sub C [2, 3, 4, 1, 0] rfl (hLA5 _ _ _ _ _ _ hw)
theorem s_X3_sealsOf_5 {G : gT} {l : Launch} {V : Hp → Nat → Nat → Nat → List (Nat × Value) → List Value → Prop} {Q : Int32 → Hp → Prop} (C : Cx G l V cX3_sealsOf 5 RX3 8 178 0 0 (pI Q) none (some .int) [] false) (LA5 : Hp → Nat → Int32 → Bool → Int32 → Int32 → Prop) (hLA5 : ∀ (h : Hp) (x0 : Nat) (x1 : Int32) (x2 : Bool) (x3 : Int32) (x4 : Int32), LA5 h x0 x1 x2 x3 x4 → V h 0 0 5 [(0, .ref x0), (1, .int x1), (2, .int (bI x2)), (3, .int x3), (4, .int x4)] []) (h : Hp) (x0 : Nat) (x1 : Int32) (x2 : Bool) (x3 : Int32) (x4 : Int32) (hw : S_X3_sealsOf_5 Q LA5 h x0 x1 x2 x3 x4) : V h 0 0 5 [(0, .ref x0), (1, .int x1), (2, .int (bI x2)), (3, .int x3), (4, .int x4)] [] := by
  unfold S_X3_sealsOf_5 at hw
  refine r_iload C 4 rfl dX3_sealsOf_5 (r_aload_n C rfl 0 rfl dX3_sealsOf_7 ?_)
  refine r_gfR (k := 1) C kX3 (by decide) (Or.inl q2156) (Or.inl rfl) dX3_sealsOf_8 hw (fun v1 hw => ?_)
  refine r_iconst (v := (2 : Int32)) C (by decide) dX3_sealsOf_11 ?_
  obtain ⟨y2, rfl, hw_y2⟩ := hw
  have hw := hw_y2
  refine r_iaload C dX3_sealsOf_12 hw (fun v3 hw => ?_)
  refine r_icmp_ge (tgt := 61) C (by decide) dX3_sealsOf_13 (fun hc4 => ?_) (fun hc4 => ?_)
  · have hw := hw.1 hc4
    refine r_iload_n C rfl 3 rfl dX3_sealsOf_61 ?_
    exact r_ireturn C dX3_sealsOf_62 (Nat.le_refl _) (Nat.le_refl _) ⟨_, rfl, hw⟩
  · have hw := hw.2 hc4
    refine r_iload_n C rfl 3 rfl dX3_sealsOf_16 (r_aload_n C rfl 0 rfl dX3_sealsOf_17 ?_)
    refine r_gfR (k := 1) C kX3 (by decide) (Or.inl q2156) (Or.inl rfl) dX3_sealsOf_18 hw (fun v5 hw => ?_)
    refine r_bipush (v := (105 : Int32)) C (by decide) dX3_sealsOf_21 (r_iload C 4 rfl dX3_sealsOf_23 (r_iadd C dX3_sealsOf_25 ?_))
    obtain ⟨y6, rfl, hw_y6⟩ := hw
    have hw := hw_y6
    refine r_iaload C dX3_sealsOf_26 hw (fun v7 hw => ?_)
    refine r_iload_n C rfl 1 rfl dX3_sealsOf_27 ?_
    refine r_icmp_ne (tgt := 52) C (by decide) dX3_sealsOf_28 (fun hc8 => ?_) (fun hc8 => ?_)
    · have hw := hw.1 hc8
      refine r_iconst (v := (0 : Int32)) C (by decide) dX3_sealsOf_52 ?_
      exact r_sub C [0, 1, 2, 4] rfl (b_X3_sealsOf_53 C LA5 hLA5 _ _ _ _ _ _ _ hw)
    · have hw := hw.2 hc8
      refine r_iload_n C rfl 2 rfl dX3_sealsOf_31 ?_
      refine r_if_eq_b (tgt := 48) C (by decide) dX3_sealsOf_32 (fun hc9 => ?_) (fun hc9 => ?_)
      · have hw := hw.1 hc9
        refine r_iconst (v := (1 : Int32)) C (by decide) dX3_sealsOf_48 (r_goto (tgt := 53) C (by decide) dX3_sealsOf_49 ?_)
        exact r_sub C [0, 1, 2, 4] rfl (b_X3_sealsOf_53 C LA5 hLA5 _ _ _ _ _ _ _ hw)
      · have hw := hw.2 hc9
        refine r_aload_n C rfl 0 rfl dX3_sealsOf_35 (r_aload_n C rfl 0 rfl dX3_sealsOf_36 ?_)
        refine r_gfR (k := 1) C kX3 (by decide) (Or.inl q2156) (Or.inl rfl) dX3_sealsOf_37 hw (fun v10 hw => ?_)
        refine r_iload C 4 rfl dX3_sealsOf_40 ?_
        obtain ⟨y11, rfl, hw_y11⟩ := hw
        have hw := hw_y11
        obtain ⟨hq12, hw⟩ := hw
        refine r_callV (ci := 2) (rest := [.int x3]) (As := [.ref y11, .int x4]) C sg_X3_fake rfl rfl q2339 q2341 qs54 q90 q2342 rfl (Nat.le_of_ble_eq_true rfl) dX3_sealsOf_42 rfl hq12 (Nat.le_refl _) (Nat.le_refl _) (c_X3_fake G l x0 y11 x4 h _ hw) (k_I (fun r13 h14 hw => ?_))
        have hJ : V h14 0 0 53 [(0, .ref x0), (1, .int x1), (2, .int (bI x2)), (4, .int x4)] [.int (bI (if r13 ≤ 0 then false else true)), .int x3] := by
          exact r_sub C [0, 1, 2, 3] rfl (b_X3_sealsOf_53 C LA5 hLA5 _ _ _ _ _ _ _ hw)
        refine r_if_le (tgt := 52) C (by decide) dX3_sealsOf_45 (fun hc15 => ?_) (fun hc15 => ?_)
        · have hJ16 := hJ
          try simp only [if_pos hc15] at hJ16
          refine r_iconst (v := (0 : Int32)) C (by decide) dX3_sealsOf_52 ?_
          exact r_sub C [0, 1, 2, 4] rfl hJ16
        · have hJ16 := hJ
          try simp only [if_neg hc15] at hJ16
          refine r_iconst (v := (1 : Int32)) C (by decide) dX3_sealsOf_48 (r_goto (tgt := 53) C (by decide) dX3_sealsOf_49 ?_)
          exact r_sub C [0, 1, 2, 4] rfl hJ16
theorem b_X3_sealsOf_5 {G : gT} {l : Launch} {V : Hp → Nat → Nat → Nat → List (Nat × Value) → List Value → Prop} {Q : Int32 → Hp → Prop} (C : Cx G l V cX3_sealsOf 5 RX3 8 178 0 0 (pI Q) none (some .int) [] false) : ∀ (k : Nat) (h : Hp) (x0 : Nat) (x1 : Int32) (x2 : Bool) (x3 : Int32) (x4 : Int32), B_X3_sealsOf_5 Q k h x0 x1 x2 x3 x4 → V h 0 0 5 [(0, .ref x0), (1, .int x1), (2, .int (bI x2)), (3, .int x3), (4, .int x4)] [] := by
  intro k
  induction k with
  | zero =>
    intro h x0 x1 x2 x3 x4 hw
    exact hw.elim
  | succ k ih =>
    intro h x0 x1 x2 x3 x4 hw
    exact s_X3_sealsOf_5 C _ (fun h x0 x1 x2 x3 x4 hw => ih h x0 x1 x2 x3 x4 hw) h x0 x1 x2 x3 x4 hw
theorem sg_X3_sealsOf : ySg yX3_sealsOf 2 = true := by decide +kernel
theorem c_X3_sealsOf (G : gT) (l : Launch) (a0 : Nat) (i1 : Int32) (b2 : Bool) (h : Hp) (Q : Int32 → Hp → Prop) (hw : w_X3_sealsOf a0 i1 b2 h Q) : Ct G l yX3_sealsOf (ws_ yX3_sealsOf cX3_sealsOf 5 (some .int)) 8 178 0 0 [.ref a0, .int i1, .int (bI b2)] h (pI Q) := by
  refine Ct.of (own := RX3) false (by decide +kernel) rfl (show (_ : Nat) ≤ _ from Nat.le_of_ble_eq_true rfl) (fun z => by cases z) (fun V C => ?_)
  show V h 0 0 0 [(0, .ref a0), (1, .int i1), (2, .int (bI b2))] []
  unfold w_X3_sealsOf at hw
  refine r_iconst (v := (0 : Int32)) C (by decide) dX3_sealsOf_0 (r_istore_n (L' := [(3, .int (0 : Int32)), (0, .ref a0), (1, .int i1), (2, .int (bI b2))]) C rfl (by decide) rfl dX3_sealsOf_1 (r_iconst (v := (0 : Int32)) C (by decide) dX3_sealsOf_2 (r_istore (L' := [(4, .int (0 : Int32)), (3, .int (0 : Int32)), (0, .ref a0), (1, .int i1), (2, .int (bI b2))]) C (by decide) rfl dX3_sealsOf_3 ?_)))
  obtain ⟨k9, hw⟩ := hw
  exact r_sub C [2, 3, 4, 1, 0] rfl (b_X3_sealsOf_5 C _ _ _ _ _ _ _ hw)
def B_X3_ofDie_33 (Q : Int32 → Hp → Prop) (h : Hp) (x0 : Nat) (x1 : Int32) (x2 : Int32) (s0 : Nat) (s1 : Int32) : Prop :=
  hasC h s0 2 ∧ (w_X3_refused s0 s1 h (fun r2 h3 => (r2 = false → (x2.toInt < 0 ∨ 3 < x2.toInt → hasC h3 x0 2 ∧ (w_X3_sealsOf x0 x1 (if ¬ x2 = (5 : Int32) then false else true) h3 (fun r18 h19 => Q r18 h19))) ∧ (x2 = (0 : Int32) → gfR h3 x0 2 1 (fun v5 => nn v5 (fun y6 => rdI h3 y6 ((25 : Int32) + x1) (fun v7 => Q v7 h3)))) ∧ (x2 = (1 : Int32) → gfR h3 x0 2 1 (fun v8 => nn v8 (fun y9 => rdI h3 y9 ((35 : Int32) + x1) (fun v10 => Q v10 h3)))) ∧ (x2 = (2 : Int32) → gfR h3 x0 2 1 (fun v11 => nn v11 (fun y12 => rdI h3 y12 ((45 : Int32) + x1) (fun v13 => Q v13 h3)))) ∧ (x2 = (3 : Int32) → gfR h3 x0 2 1 (fun v14 => nn v14 (fun y15 => rdI h3 y15 ((55 : Int32) + x1) (fun v16 => Q v16 h3))))) ∧ (r2 = true → Q (0 : Int32) h3)))
def w_X3_ofDie (a0 : Nat) (i1 : Int32) (i2 : Int32) (h : Hp) (Q : Int32 → Hp → Prop) : Prop :=
  gfR h a0 2 1 (fun v23 => nn v23 (fun y24 => w_X3_hasDie y24 i1 h (fun r25 h26 => (r25 = true → w_X3_in i2.toInt64 (0 : Int64) (5 : Int64) h26 (fun r28 h29 => B_X3_ofDie_33 Q h29 a0 i1 i2 a0 (if r28 = true then (0 : Int32) else (2 : Int32)))) ∧ (r25 = false → B_X3_ofDie_33 Q h26 a0 i1 i2 a0 (1 : Int32)))))
theorem b_X3_ofDie_33 {G : gT} {l : Launch} {V : Hp → Nat → Nat → Nat → List (Nat × Value) → List Value → Prop} {Q : Int32 → Hp → Prop} (C : Cx G l V cX3_ofDie 3 RX3 9 202 0 0 (pI Q) none (some .int) [] false) (h : Hp) (x0 : Nat) (x1 : Int32) (x2 : Int32) (s0 : Nat) (s1 : Int32) (hw : B_X3_ofDie_33 Q h x0 x1 x2 s0 s1) : V h 0 0 33 [(0, .ref x0), (1, .int x1), (2, .int x2)] [.int s1, .ref s0] := by
  unfold B_X3_ofDie_33 at hw
  obtain ⟨hq1, hw⟩ := hw
  refine r_callV (ci := 2) (rest := []) (As := [.int s1]) C sg_X3_refused rfl rfl q2222 q2224 qs38 q90 q2225 rfl (Nat.le_of_ble_eq_true rfl) dX3_ofDie_33 rfl hq1 (Nat.le_refl _) (Nat.le_refl _) (c_X3_refused G l s0 s1 h _ hw) (k_Z (fun r2 h3 hw => ?_))
  refine r_if_eq_b (tgt := 41) C (by decide) dX3_ofDie_36 (fun hc4 => ?_) (fun hc4 => ?_)
  · have hw := hw.1 hc4
    refine r_iload_n C rfl 2 rfl dX3_ofDie_41 ?_
    by_cases hd22 : x2.toInt < 0 ∨ 3 < x2.toInt
    · have hw := hw.1 hd22
      refine r_tableOut (tgt := 112) C hd22 (by decide) dX3_ofDie_42 ?_
      refine r_aload_n C rfl 0 rfl dX3_ofDie_112 (r_iload_n C rfl 1 rfl dX3_ofDie_113 (r_iload_n C rfl 2 rfl dX3_ofDie_114 (r_iconst (v := (5 : Int32)) C (by decide) dX3_ofDie_115 ?_)))
      have hJ : V h3 0 0 124 [] [.int (bI (if ¬ x2 = (5 : Int32) then false else true)), .int x1, .ref x0] := by
        obtain ⟨hq17, hw⟩ := hw
        refine r_callV (ci := 2) (rest := []) (As := [.int x1, .int (bI (if ¬ x2 = (5 : Int32) then false else true))]) C sg_X3_sealsOf rfl rfl q2417 q2419 qs62 q90 q2420 rfl (Nat.le_of_ble_eq_true rfl) dX3_ofDie_124 rfl hq17 (Nat.le_refl _) (Nat.le_refl _) (c_X3_sealsOf G l x0 x1 (if ¬ x2 = (5 : Int32) then false else true) h3 _ hw) (k_I (fun r18 h19 hw => ?_))
        exact r_ireturn C dX3_ofDie_127 (Nat.le_refl _) (Nat.le_refl _) ⟨_, rfl, hw⟩
      refine r_icmp_ne (tgt := 123) C (by decide) dX3_ofDie_116 (fun hc20 => ?_) (fun hc20 => ?_)
      · have hJ21 := hJ
        try simp only [if_pos hc20] at hJ21
        refine r_iconst (v := (0 : Int32)) C (by decide) dX3_ofDie_123 ?_
        exact r_sub C [] rfl hJ21
      · have hJ21 := hJ
        try simp only [if_neg (show ¬ ¬ x2 = (5 : Int32) from fun z => z hc20)] at hJ21
        refine r_iconst (v := (1 : Int32)) C (by decide) dX3_ofDie_119 (r_goto (tgt := 124) C (by decide) dX3_ofDie_120 ?_)
        exact r_sub C [] rfl hJ21
    · obtain ⟨k9, hk9, e9⟩ := tb_k 4 (by decide) hd22
      match k9, hk9, e9 with
      | 0, _, e9 =>
        have e9 : x2 = (0 : Int32) := e9.trans (by decide)
        have hw := hw.2.1 e9
        refine r_tableAt (k := (0 : Int32)) (off := 30) (tgt := 72) C e9 (by decide) (by decide) (by decide) (by decide) dX3_ofDie_42 ?_
        refine r_aload_n C rfl 0 rfl dX3_ofDie_72 ?_
        refine r_gfR (k := 1) C kX3 (by decide) (Or.inl q2156) (Or.inl rfl) dX3_ofDie_73 hw (fun v5 hw => ?_)
        refine r_bipush (v := (25 : Int32)) C (by decide) dX3_ofDie_76 (r_iload_n C rfl 1 rfl dX3_ofDie_78 (r_iadd C dX3_ofDie_79 ?_))
        obtain ⟨y6, rfl, hw_y6⟩ := hw
        have hw := hw_y6
        refine r_iaload C dX3_ofDie_80 hw (fun v7 hw => ?_)
        exact r_ireturn C dX3_ofDie_81 (Nat.le_refl _) (Nat.le_refl _) ⟨_, rfl, hw⟩
      | 1, _, e9 =>
        have e9 : x2 = (1 : Int32) := e9.trans (by decide)
        have hw := hw.2.2.1 e9
        refine r_tableAt (k := (1 : Int32)) (off := 40) (tgt := 82) C e9 (by decide) (by decide) (by decide) (by decide) dX3_ofDie_42 ?_
        refine r_aload_n C rfl 0 rfl dX3_ofDie_82 ?_
        refine r_gfR (k := 1) C kX3 (by decide) (Or.inl q2156) (Or.inl rfl) dX3_ofDie_83 hw (fun v8 hw => ?_)
        refine r_bipush (v := (35 : Int32)) C (by decide) dX3_ofDie_86 (r_iload_n C rfl 1 rfl dX3_ofDie_88 (r_iadd C dX3_ofDie_89 ?_))
        obtain ⟨y9, rfl, hw_y9⟩ := hw
        have hw := hw_y9
        refine r_iaload C dX3_ofDie_90 hw (fun v10 hw => ?_)
        exact r_ireturn C dX3_ofDie_91 (Nat.le_refl _) (Nat.le_refl _) ⟨_, rfl, hw⟩
      | 2, _, e9 =>
        have e9 : x2 = (2 : Int32) := e9.trans (by decide)
        have hw := hw.2.2.2.1 e9
        refine r_tableAt (k := (2 : Int32)) (off := 50) (tgt := 92) C e9 (by decide) (by decide) (by decide) (by decide) dX3_ofDie_42 ?_
        refine r_aload_n C rfl 0 rfl dX3_ofDie_92 ?_
        refine r_gfR (k := 1) C kX3 (by decide) (Or.inl q2156) (Or.inl rfl) dX3_ofDie_93 hw (fun v11 hw => ?_)
        refine r_bipush (v := (45 : Int32)) C (by decide) dX3_ofDie_96 (r_iload_n C rfl 1 rfl dX3_ofDie_98 (r_iadd C dX3_ofDie_99 ?_))
        obtain ⟨y12, rfl, hw_y12⟩ := hw
        have hw := hw_y12
        refine r_iaload C dX3_ofDie_100 hw (fun v13 hw => ?_)
        exact r_ireturn C dX3_ofDie_101 (Nat.le_refl _) (Nat.le_refl _) ⟨_, rfl, hw⟩
      | 3, _, e9 =>
        have e9 : x2 = (3 : Int32) := e9.trans (by decide)
        have hw := hw.2.2.2.2 e9
        refine r_tableAt (k := (3 : Int32)) (off := 60) (tgt := 102) C e9 (by decide) (by decide) (by decide) (by decide) dX3_ofDie_42 ?_
        refine r_aload_n C rfl 0 rfl dX3_ofDie_102 ?_
        refine r_gfR (k := 1) C kX3 (by decide) (Or.inl q2156) (Or.inl rfl) dX3_ofDie_103 hw (fun v14 hw => ?_)
        refine r_bipush (v := (55 : Int32)) C (by decide) dX3_ofDie_106 (r_iload_n C rfl 1 rfl dX3_ofDie_108 (r_iadd C dX3_ofDie_109 ?_))
        obtain ⟨y15, rfl, hw_y15⟩ := hw
        have hw := hw_y15
        refine r_iaload C dX3_ofDie_110 hw (fun v16 hw => ?_)
        exact r_ireturn C dX3_ofDie_111 (Nat.le_refl _) (Nat.le_refl _) ⟨_, rfl, hw⟩
      | k9 + 4, hk9, _ => exact absurd hk9 (by omega)
  · have hw := hw.2 hc4
    refine r_iconst (v := (0 : Int32)) C (by decide) dX3_ofDie_39 ?_
    exact r_ireturn C dX3_ofDie_40 (Nat.le_refl _) (Nat.le_refl _) ⟨_, rfl, hw⟩
theorem sg_X3_ofDie : ySg yX3_ofDie 2 = true := by decide +kernel
theorem c_X3_ofDie (G : gT) (l : Launch) (a0 : Nat) (i1 : Int32) (i2 : Int32) (h : Hp) (Q : Int32 → Hp → Prop) (hw : w_X3_ofDie a0 i1 i2 h Q) : Ct G l yX3_ofDie (ws_ yX3_ofDie cX3_ofDie 3 (some .int)) 9 202 0 0 [.ref a0, .int i1, .int i2] h (pI Q) := by
  refine Ct.of (own := RX3) false (by decide +kernel) rfl (show (_ : Nat) ≤ _ from Nat.le_of_ble_eq_true rfl) (fun z => by cases z) (fun V C => ?_)
  show V h 0 0 0 [(0, .ref a0), (1, .int i1), (2, .int i2)] []
  unfold w_X3_ofDie at hw
  refine r_aload_n C rfl 0 rfl dX3_ofDie_0 (r_aload_n C rfl 0 rfl dX3_ofDie_1 ?_)
  refine r_gfR (k := 1) C kX3 (by decide) (Or.inl q2156) (Or.inl rfl) dX3_ofDie_2 hw (fun v23 hw => ?_)
  refine r_iload_n C rfl 1 rfl dX3_ofDie_5 ?_
  obtain ⟨y24, rfl, hw_y24⟩ := hw
  have hw := hw_y24
  refine r_callS (rest := [.ref a0]) (As := [.ref y24, .int i1]) C sg_X3_hasDie q2291 q2292 q90 q2293 rfl (Nat.le_of_ble_eq_true rfl) dX3_ofDie_6 rfl (Nat.le_refl _) (Nat.le_refl _) (c_X3_hasDie G l y24 i1 h _ hw) (k_Z (fun r25 h26 hw => ?_))
  refine r_if_ne_b (tgt := 16) C (by decide) dX3_ofDie_9 (fun hc27 => ?_) (fun hc27 => ?_)
  · have hw := hw.1 hc27
    refine r_iload_n C rfl 2 rfl dX3_ofDie_16 (r_i2l C dX3_ofDie_17 (r_lconst (v := (0 : Int64)) C (by decide) dX3_ofDie_18 (r_ldc2 (v := (5 : Int64)) C q2416 dX3_ofDie_19 ?_)))
    refine r_callS (rest := [.ref a0]) (As := [.long i2.toInt64, .long (0 : Int64), .long (5 : Int64)]) C sg_X3_in q2219 q2220 q90 q2221 rfl (Nat.le_of_ble_eq_true rfl) dX3_ofDie_22 rfl (Nat.le_refl _) (Nat.le_refl _) (c_X3_in G l i2.toInt64 (0 : Int64) (5 : Int64) h26 _ hw) (k_Z (fun r28 h29 hw => ?_))
    have hJ : V h29 0 0 33 [(0, .ref a0), (1, .int i1), (2, .int i2)] [.int (if r28 = true then (0 : Int32) else (2 : Int32)), .ref a0] := by
      exact r_sub C [0, 1, 2] rfl (b_X3_ofDie_33 C _ _ _ _ _ _ hw)
    refine r_if_ne_b (tgt := 32) C (by decide) dX3_ofDie_25 (fun hc30 => ?_) (fun hc30 => ?_)
    · have hJ31 := hJ
      try simp only [if_pos hc30] at hJ31
      refine r_iconst (v := (0 : Int32)) C (by decide) dX3_ofDie_32 ?_
      exact r_sub C [0, 1, 2] rfl hJ31
    · have hJ31 := hJ
      try simp only [if_neg (show ¬ r28 = true from by rw [hc30]; decide)] at hJ31
      refine r_iconst (v := (2 : Int32)) C (by decide) dX3_ofDie_28 (r_goto (tgt := 33) C (by decide) dX3_ofDie_29 ?_)
      exact r_sub C [0, 1, 2] rfl hJ31
  · have hw := hw.2 hc27
    refine r_iconst (v := (1 : Int32)) C (by decide) dX3_ofDie_12 (r_goto (tgt := 33) C (by decide) dX3_ofDie_13 ?_)
    exact r_sub C [0, 1, 2] rfl (b_X3_ofDie_33 C _ _ _ _ _ _ hw)
def B_X3_crackYear_38 (Q : Int32 → Hp → Prop) (h : Hp) (x0 : Nat) (x1 : Int32) (x2 : Int32) (s0 : Nat) (s1 : Bool) : Prop :=
  hasC h s0 2 ∧ (w_X3_refused s0 (bI s1) h (fun r2 h3 => (r2 = false → gfR h3 x0 2 1 (fun v5 => nn v5 (fun y6 => rdI h3 y6 (((65 : Int32) + ((4 : Int32) * x1)) + x2) (fun v7 => Q v7 h3)))) ∧ (r2 = true → Q (0 : Int32) h3)))
def w_X3_crackYear (a0 : Nat) (i1 : Int32) (i2 : Int32) (h : Hp) (Q : Int32 → Hp → Prop) : Prop :=
  gfR h a0 2 1 (fun v8 => nn v8 (fun y9 => w_X3_hasDie y9 i1 h (fun r10 h11 => (r10 = false → B_X3_crackYear_38 Q h11 a0 i1 i2 a0 true) ∧ (r10 = true → gfR h11 a0 2 1 (fun v13 => nn v13 (fun y14 => rdI h11 y14 ((55 : Int32) + i1) (fun v15 => w_X3_in i2.toInt64 (0 : Int64) ((v15 - (1 : Int32)).toInt64) h11 (fun r16 h17 => B_X3_crackYear_38 Q h17 a0 i1 i2 a0 (if r16 = false then true else false)))))))))
theorem b_X3_crackYear_38 {G : gT} {l : Launch} {V : Hp → Nat → Nat → Nat → List (Nat × Value) → List Value → Prop} {Q : Int32 → Hp → Prop} (C : Cx G l V cX3_crackYear 3 RX3 3 58 0 0 (pI Q) none (some .int) [] false) (h : Hp) (x0 : Nat) (x1 : Int32) (x2 : Int32) (s0 : Nat) (s1 : Bool) (hw : B_X3_crackYear_38 Q h x0 x1 x2 s0 s1) : V h 0 0 38 [(0, .ref x0), (1, .int x1), (2, .int x2)] [.int (bI s1), .ref s0] := by
  unfold B_X3_crackYear_38 at hw
  obtain ⟨hq1, hw⟩ := hw
  refine r_callV (ci := 2) (rest := []) (As := [.int (bI s1)]) C sg_X3_refused rfl rfl q2222 q2224 qs38 q90 q2225 rfl (Nat.le_of_ble_eq_true rfl) dX3_crackYear_38 rfl hq1 (Nat.le_refl _) (Nat.le_refl _) (c_X3_refused G l s0 (bI s1) h _ hw) (k_Z (fun r2 h3 hw => ?_))
  refine r_if_eq_b (tgt := 46) C (by decide) dX3_crackYear_41 (fun hc4 => ?_) (fun hc4 => ?_)
  · have hw := hw.1 hc4
    refine r_aload_n C rfl 0 rfl dX3_crackYear_46 ?_
    refine r_gfR (k := 1) C kX3 (by decide) (Or.inl q2156) (Or.inl rfl) dX3_crackYear_47 hw (fun v5 hw => ?_)
    refine r_bipush (v := (65 : Int32)) C (by decide) dX3_crackYear_50 (r_iconst (v := (4 : Int32)) C (by decide) dX3_crackYear_52 (r_iload_n C rfl 1 rfl dX3_crackYear_53 (r_imul C dX3_crackYear_54 (r_iadd C dX3_crackYear_55 (r_iload_n C rfl 2 rfl dX3_crackYear_56 ?_)))))
    refine r_iadd C dX3_crackYear_57 ?_
    obtain ⟨y6, rfl, hw_y6⟩ := hw
    have hw := hw_y6
    refine r_iaload C dX3_crackYear_58 hw (fun v7 hw => ?_)
    exact r_ireturn C dX3_crackYear_59 (Nat.le_refl _) (Nat.le_refl _) ⟨_, rfl, hw⟩
  · have hw := hw.2 hc4
    refine r_iconst (v := (0 : Int32)) C (by decide) dX3_crackYear_44 ?_
    exact r_ireturn C dX3_crackYear_45 (Nat.le_refl _) (Nat.le_refl _) ⟨_, rfl, hw⟩
theorem sg_X3_crackYear : ySg yX3_crackYear 2 = true := by decide +kernel
theorem c_X3_crackYear (G : gT) (l : Launch) (a0 : Nat) (i1 : Int32) (i2 : Int32) (h : Hp) (Q : Int32 → Hp → Prop) (hw : w_X3_crackYear a0 i1 i2 h Q) : Ct G l yX3_crackYear (ws_ yX3_crackYear cX3_crackYear 3 (some .int)) 3 58 0 0 [.ref a0, .int i1, .int i2] h (pI Q) := by
  refine Ct.of (own := RX3) false (by decide +kernel) rfl (show (_ : Nat) ≤ _ from Nat.le_of_ble_eq_true rfl) (fun z => by cases z) (fun V C => ?_)
  show V h 0 0 0 [(0, .ref a0), (1, .int i1), (2, .int i2)] []
  unfold w_X3_crackYear at hw
  refine r_aload_n C rfl 0 rfl dX3_crackYear_0 (r_aload_n C rfl 0 rfl dX3_crackYear_1 ?_)
  refine r_gfR (k := 1) C kX3 (by decide) (Or.inl q2156) (Or.inl rfl) dX3_crackYear_2 hw (fun v8 hw => ?_)
  refine r_iload_n C rfl 1 rfl dX3_crackYear_5 ?_
  obtain ⟨y9, rfl, hw_y9⟩ := hw
  have hw := hw_y9
  refine r_callS (rest := [.ref a0]) (As := [.ref y9, .int i1]) C sg_X3_hasDie q2291 q2292 q90 q2293 rfl (Nat.le_of_ble_eq_true rfl) dX3_crackYear_6 rfl (Nat.le_refl _) (Nat.le_refl _) (c_X3_hasDie G l y9 i1 h _ hw) (k_Z (fun r10 h11 hw => ?_))
  refine r_if_eq_b (tgt := 37) C (by decide) dX3_crackYear_9 (fun hc12 => ?_) (fun hc12 => ?_)
  · have hw := hw.1 hc12
    refine r_iconst (v := (1 : Int32)) C (by decide) dX3_crackYear_37 ?_
    exact r_sub C [0, 1, 2] rfl (b_X3_crackYear_38 C _ _ _ _ _ _ hw)
  · have hw := hw.2 hc12
    refine r_iload_n C rfl 2 rfl dX3_crackYear_12 (r_i2l C dX3_crackYear_13 (r_lconst (v := (0 : Int64)) C (by decide) dX3_crackYear_14 (r_aload_n C rfl 0 rfl dX3_crackYear_15 ?_)))
    refine r_gfR (k := 1) C kX3 (by decide) (Or.inl q2156) (Or.inl rfl) dX3_crackYear_16 hw (fun v13 hw => ?_)
    refine r_bipush (v := (55 : Int32)) C (by decide) dX3_crackYear_19 (r_iload_n C rfl 1 rfl dX3_crackYear_21 (r_iadd C dX3_crackYear_22 ?_))
    obtain ⟨y14, rfl, hw_y14⟩ := hw
    have hw := hw_y14
    refine r_iaload C dX3_crackYear_23 hw (fun v15 hw => ?_)
    refine r_iconst (v := (1 : Int32)) C (by decide) dX3_crackYear_24 (r_isub C dX3_crackYear_25 (r_i2l C dX3_crackYear_26 ?_))
    refine r_callS (rest := [.ref a0]) (As := [.long i2.toInt64, .long (0 : Int64), .long ((v15 - (1 : Int32)).toInt64)]) C sg_X3_in q2219 q2220 q90 q2221 rfl (Nat.le_of_ble_eq_true rfl) dX3_crackYear_27 rfl (Nat.le_refl _) (Nat.le_refl _) (c_X3_in G l i2.toInt64 (0 : Int64) ((v15 - (1 : Int32)).toInt64) h11 _ hw) (k_Z (fun r16 h17 hw => ?_))
    have hJ : V h17 0 0 38 [(0, .ref a0), (1, .int i1), (2, .int i2)] [.int (bI (if r16 = false then true else false)), .ref a0] := by
      exact r_sub C [0, 1, 2] rfl (b_X3_crackYear_38 C _ _ _ _ _ _ hw)
    refine r_if_eq_b (tgt := 37) C (by decide) dX3_crackYear_30 (fun hc18 => ?_) (fun hc18 => ?_)
    · have hJ19 := hJ
      try simp only [if_pos hc18] at hJ19
      refine r_iconst (v := (1 : Int32)) C (by decide) dX3_crackYear_37 ?_
      exact r_sub C [0, 1, 2] rfl hJ19
    · have hJ19 := hJ
      try simp only [if_neg (show ¬ r16 = false from by rw [hc18]; decide)] at hJ19
      refine r_iconst (v := (0 : Int32)) C (by decide) dX3_crackYear_33 (r_goto (tgt := 38) C (by decide) dX3_crackYear_34 ?_)
      exact r_sub C [0, 1, 2] rfl hJ19
def B_X3_ofSeal_33 (Q : Int32 → Hp → Prop) (h : Hp) (x0 : Nat) (x1 : Int32) (x2 : Int32) (s0 : Nat) (s1 : Int32) : Prop :=
  hasC h s0 2 ∧ (w_X3_refused s0 s1 h (fun r2 h3 => (r2 = false → gfR h3 x0 2 1 (fun v5 => nn v5 (fun y6 => w_X3_shelfOf y6 x1 h3 (fun r7 h8 => (x2.toInt < 0 ∨ 6 < x2.toInt → (¬ r7 = (-1 : Int32) → gfR h8 x0 2 1 (fun v28 => nn v28 (fun y29 => w_X3_placeOn y29 x1 r7 h8 (fun r30 h31 => Q r30 h31)))) ∧ (r7 = (-1 : Int32) → Q (-1 : Int32) h8)) ∧ (x2 = (0 : Int32) → gfR h8 x0 2 1 (fun v9 => nn v9 (fun y10 => rdI h8 y10 ((105 : Int32) + x1) (fun v11 => Q v11 h8)))) ∧ (x2 = (1 : Int32) → gfR h8 x0 2 1 (fun v12 => nn v12 (fun y13 => rdI h8 y13 ((129 : Int32) + x1) (fun v14 => Q v14 h8)))) ∧ (x2 = (2 : Int32) → gfR h8 x0 2 1 (fun v15 => nn v15 (fun y16 => rdI h8 y16 ((153 : Int32) + x1) (fun v17 => Q v17 h8)))) ∧ (x2 = (3 : Int32) → gfR h8 x0 2 1 (fun v18 => nn v18 (fun y19 => rdI h8 y19 ((177 : Int32) + x1) (fun v20 => Q v20 h8)))) ∧ (x2 = (4 : Int32) → gfR h8 x0 2 1 (fun v21 => nn v21 (fun y22 => rdI h8 y22 ((201 : Int32) + x1) (fun v23 => Q v23 h8)))) ∧ (x2 = (5 : Int32) → gfR h8 x0 2 1 (fun v24 => nn v24 (fun y25 => rdI h8 y25 ((225 : Int32) + x1) (fun v26 => Q v26 h8)))) ∧ (x2 = (6 : Int32) → Q r7 h8))))) ∧ (r2 = true → Q (0 : Int32) h3)))
def w_X3_ofSeal (a0 : Nat) (i1 : Int32) (i2 : Int32) (h : Hp) (Q : Int32 → Hp → Prop) : Prop :=
  gfR h a0 2 1 (fun v33 => nn v33 (fun y34 => w_X3_hasSeal y34 i1 h (fun r35 h36 => (r35 = true → w_X3_in i2.toInt64 (0 : Int64) (7 : Int64) h36 (fun r38 h39 => B_X3_ofSeal_33 Q h39 a0 i1 i2 a0 (if r38 = true then (0 : Int32) else (2 : Int32)))) ∧ (r35 = false → B_X3_ofSeal_33 Q h36 a0 i1 i2 a0 (1 : Int32)))))
theorem b_X3_ofSeal_33 {G : gT} {l : Launch} {V : Hp → Nat → Nat → Nat → List (Nat × Value) → List Value → Prop} {Q : Int32 → Hp → Prop} (C : Cx G l V cX3_ofSeal 4 RX3 3 59 0 0 (pI Q) none (some .int) [] false) (h : Hp) (x0 : Nat) (x1 : Int32) (x2 : Int32) (s0 : Nat) (s1 : Int32) (hw : B_X3_ofSeal_33 Q h x0 x1 x2 s0 s1) : V h 0 0 33 [(0, .ref x0), (1, .int x1), (2, .int x2)] [.int s1, .ref s0] := by
  unfold B_X3_ofSeal_33 at hw
  obtain ⟨hq1, hw⟩ := hw
  refine r_callV (ci := 2) (rest := []) (As := [.int s1]) C sg_X3_refused rfl rfl q2222 q2224 qs38 q90 q2225 rfl (Nat.le_of_ble_eq_true rfl) dX3_ofSeal_33 rfl hq1 (Nat.le_refl _) (Nat.le_refl _) (c_X3_refused G l s0 s1 h _ hw) (k_Z (fun r2 h3 hw => ?_))
  refine r_if_eq_b (tgt := 41) C (by decide) dX3_ofSeal_36 (fun hc4 => ?_) (fun hc4 => ?_)
  · have hw := hw.1 hc4
    refine r_aload_n C rfl 0 rfl dX3_ofSeal_41 ?_
    refine r_gfR (k := 1) C kX3 (by decide) (Or.inl q2156) (Or.inl rfl) dX3_ofSeal_42 hw (fun v5 hw => ?_)
    refine r_iload_n C rfl 1 rfl dX3_ofSeal_45 ?_
    obtain ⟨y6, rfl, hw_y6⟩ := hw
    have hw := hw_y6
    refine r_callS (rest := []) (As := [.ref y6, .int x1]) C sg_X3_shelfOf q2398 q2399 q90 q2400 rfl (Nat.le_of_ble_eq_true rfl) dX3_ofSeal_46 rfl (Nat.le_refl _) (Nat.le_refl _) (c_X3_shelfOf G l y6 x1 h3 _ hw) (k_I (fun r7 h8 hw => ?_))
    refine r_istore_n (L' := [(3, .int r7), (0, .ref x0), (1, .int x1), (2, .int x2)]) C rfl (by decide) rfl dX3_ofSeal_49 (r_iload_n C rfl 3 rfl dX3_ofSeal_50 ?_)
    by_cases hd32 : x2.toInt < 0 ∨ 6 < x2.toInt
    · have hw := hw.1 hd32
      refine r_tableOut (tgt := 159) C hd32 (by decide) dX3_ofSeal_51 ?_
      refine r_iload_n C rfl 0 rfl dX3_ofSeal_159 (r_iconst (v := (-1 : Int32)) C (by decide) dX3_ofSeal_160 ?_)
      refine r_icmp_ne (tgt := 168) C (by decide) dX3_ofSeal_161 (fun hc27 => ?_) (fun hc27 => ?_)
      · have hw := hw.1 hc27
        refine r_aload_n C rfl 1 rfl dX3_ofSeal_168 ?_
        refine r_gfR (k := 1) C kX3 (by decide) (Or.inl q2156) (Or.inl rfl) dX3_ofSeal_169 hw (fun v28 hw => ?_)
        refine r_iload_n C rfl 2 rfl dX3_ofSeal_172 (r_iload_n C rfl 0 rfl dX3_ofSeal_173 ?_)
        obtain ⟨y29, rfl, hw_y29⟩ := hw
        have hw := hw_y29
        refine r_callS (rest := []) (As := [.ref y29, .int x1, .int r7]) C sg_X3_placeOn q2401 q2402 q90 q2403 rfl (Nat.le_of_ble_eq_true rfl) dX3_ofSeal_174 rfl (Nat.le_refl _) (Nat.le_refl _) (c_X3_placeOn G l y29 x1 r7 h8 _ hw) (k_I (fun r30 h31 hw => ?_))
        exact r_ireturn C dX3_ofSeal_177 (Nat.le_refl _) (Nat.le_refl _) ⟨_, rfl, hw⟩
      · have hw := hw.2 hc27
        refine r_iconst (v := (-1 : Int32)) C (by decide) dX3_ofSeal_164 (r_goto (tgt := 177) C (by decide) dX3_ofSeal_165 ?_)
        exact r_ireturn C dX3_ofSeal_177 (Nat.le_refl _) (Nat.le_refl _) ⟨_, rfl, hw⟩
    · obtain ⟨k9, hk9, e9⟩ := tb_k 7 (by decide) hd32
      match k9, hk9, e9 with
      | 0, _, e9 =>
        have e9 : x2 = (0 : Int32) := e9.trans (by decide)
        have hw := hw.2.1 e9
        refine r_tableAt (k := (0 : Int32)) (off := 41) (tgt := 92) C e9 (by decide) (by decide) (by decide) (by decide) dX3_ofSeal_51 ?_
        refine r_aload_n C rfl 1 rfl dX3_ofSeal_92 ?_
        refine r_gfR (k := 1) C kX3 (by decide) (Or.inl q2156) (Or.inl rfl) dX3_ofSeal_93 hw (fun v9 hw => ?_)
        refine r_bipush (v := (105 : Int32)) C (by decide) dX3_ofSeal_96 (r_iload_n C rfl 2 rfl dX3_ofSeal_98 (r_iadd C dX3_ofSeal_99 ?_))
        obtain ⟨y10, rfl, hw_y10⟩ := hw
        have hw := hw_y10
        refine r_iaload C dX3_ofSeal_100 hw (fun v11 hw => ?_)
        exact r_ireturn C dX3_ofSeal_101 (Nat.le_refl _) (Nat.le_refl _) ⟨_, rfl, hw⟩
      | 1, _, e9 =>
        have e9 : x2 = (1 : Int32) := e9.trans (by decide)
        have hw := hw.2.2.1 e9
        refine r_tableAt (k := (1 : Int32)) (off := 51) (tgt := 102) C e9 (by decide) (by decide) (by decide) (by decide) dX3_ofSeal_51 ?_
        refine r_aload_n C rfl 1 rfl dX3_ofSeal_102 ?_
        refine r_gfR (k := 1) C kX3 (by decide) (Or.inl q2156) (Or.inl rfl) dX3_ofSeal_103 hw (fun v12 hw => ?_)
        refine r_sipush (v := (129 : Int32)) C (by decide) dX3_ofSeal_106 (r_iload_n C rfl 2 rfl dX3_ofSeal_109 (r_iadd C dX3_ofSeal_110 ?_))
        obtain ⟨y13, rfl, hw_y13⟩ := hw
        have hw := hw_y13
        refine r_iaload C dX3_ofSeal_111 hw (fun v14 hw => ?_)
        exact r_ireturn C dX3_ofSeal_112 (Nat.le_refl _) (Nat.le_refl _) ⟨_, rfl, hw⟩
      | 2, _, e9 =>
        have e9 : x2 = (2 : Int32) := e9.trans (by decide)
        have hw := hw.2.2.2.1 e9
        refine r_tableAt (k := (2 : Int32)) (off := 62) (tgt := 113) C e9 (by decide) (by decide) (by decide) (by decide) dX3_ofSeal_51 ?_
        refine r_aload_n C rfl 1 rfl dX3_ofSeal_113 ?_
        refine r_gfR (k := 1) C kX3 (by decide) (Or.inl q2156) (Or.inl rfl) dX3_ofSeal_114 hw (fun v15 hw => ?_)
        refine r_sipush (v := (153 : Int32)) C (by decide) dX3_ofSeal_117 (r_iload_n C rfl 2 rfl dX3_ofSeal_120 (r_iadd C dX3_ofSeal_121 ?_))
        obtain ⟨y16, rfl, hw_y16⟩ := hw
        have hw := hw_y16
        refine r_iaload C dX3_ofSeal_122 hw (fun v17 hw => ?_)
        exact r_ireturn C dX3_ofSeal_123 (Nat.le_refl _) (Nat.le_refl _) ⟨_, rfl, hw⟩
      | 3, _, e9 =>
        have e9 : x2 = (3 : Int32) := e9.trans (by decide)
        have hw := hw.2.2.2.2.1 e9
        refine r_tableAt (k := (3 : Int32)) (off := 73) (tgt := 124) C e9 (by decide) (by decide) (by decide) (by decide) dX3_ofSeal_51 ?_
        refine r_aload_n C rfl 1 rfl dX3_ofSeal_124 ?_
        refine r_gfR (k := 1) C kX3 (by decide) (Or.inl q2156) (Or.inl rfl) dX3_ofSeal_125 hw (fun v18 hw => ?_)
        refine r_sipush (v := (177 : Int32)) C (by decide) dX3_ofSeal_128 (r_iload_n C rfl 2 rfl dX3_ofSeal_131 (r_iadd C dX3_ofSeal_132 ?_))
        obtain ⟨y19, rfl, hw_y19⟩ := hw
        have hw := hw_y19
        refine r_iaload C dX3_ofSeal_133 hw (fun v20 hw => ?_)
        exact r_ireturn C dX3_ofSeal_134 (Nat.le_refl _) (Nat.le_refl _) ⟨_, rfl, hw⟩
      | 4, _, e9 =>
        have e9 : x2 = (4 : Int32) := e9.trans (by decide)
        have hw := hw.2.2.2.2.2.1 e9
        refine r_tableAt (k := (4 : Int32)) (off := 84) (tgt := 135) C e9 (by decide) (by decide) (by decide) (by decide) dX3_ofSeal_51 ?_
        refine r_aload_n C rfl 1 rfl dX3_ofSeal_135 ?_
        refine r_gfR (k := 1) C kX3 (by decide) (Or.inl q2156) (Or.inl rfl) dX3_ofSeal_136 hw (fun v21 hw => ?_)
        refine r_sipush (v := (201 : Int32)) C (by decide) dX3_ofSeal_139 (r_iload_n C rfl 2 rfl dX3_ofSeal_142 (r_iadd C dX3_ofSeal_143 ?_))
        obtain ⟨y22, rfl, hw_y22⟩ := hw
        have hw := hw_y22
        refine r_iaload C dX3_ofSeal_144 hw (fun v23 hw => ?_)
        exact r_ireturn C dX3_ofSeal_145 (Nat.le_refl _) (Nat.le_refl _) ⟨_, rfl, hw⟩
      | 5, _, e9 =>
        have e9 : x2 = (5 : Int32) := e9.trans (by decide)
        have hw := hw.2.2.2.2.2.2.1 e9
        refine r_tableAt (k := (5 : Int32)) (off := 95) (tgt := 146) C e9 (by decide) (by decide) (by decide) (by decide) dX3_ofSeal_51 ?_
        refine r_aload_n C rfl 1 rfl dX3_ofSeal_146 ?_
        refine r_gfR (k := 1) C kX3 (by decide) (Or.inl q2156) (Or.inl rfl) dX3_ofSeal_147 hw (fun v24 hw => ?_)
        refine r_sipush (v := (225 : Int32)) C (by decide) dX3_ofSeal_150 (r_iload_n C rfl 2 rfl dX3_ofSeal_153 (r_iadd C dX3_ofSeal_154 ?_))
        obtain ⟨y25, rfl, hw_y25⟩ := hw
        have hw := hw_y25
        refine r_iaload C dX3_ofSeal_155 hw (fun v26 hw => ?_)
        exact r_ireturn C dX3_ofSeal_156 (Nat.le_refl _) (Nat.le_refl _) ⟨_, rfl, hw⟩
      | 6, _, e9 =>
        have e9 : x2 = (6 : Int32) := e9.trans (by decide)
        have hw := hw.2.2.2.2.2.2.2 e9
        refine r_tableAt (k := (6 : Int32)) (off := 106) (tgt := 157) C e9 (by decide) (by decide) (by decide) (by decide) dX3_ofSeal_51 ?_
        refine r_iload_n C rfl 0 rfl dX3_ofSeal_157 ?_
        exact r_ireturn C dX3_ofSeal_158 (Nat.le_refl _) (Nat.le_refl _) ⟨_, rfl, hw⟩
      | k9 + 7, hk9, _ => exact absurd hk9 (by omega)
  · have hw := hw.2 hc4
    refine r_iconst (v := (0 : Int32)) C (by decide) dX3_ofSeal_39 ?_
    exact r_ireturn C dX3_ofSeal_40 (Nat.le_refl _) (Nat.le_refl _) ⟨_, rfl, hw⟩
theorem sg_X3_ofSeal : ySg yX3_ofSeal 2 = true := by decide +kernel
theorem c_X3_ofSeal (G : gT) (l : Launch) (a0 : Nat) (i1 : Int32) (i2 : Int32) (h : Hp) (Q : Int32 → Hp → Prop) (hw : w_X3_ofSeal a0 i1 i2 h Q) : Ct G l yX3_ofSeal (ws_ yX3_ofSeal cX3_ofSeal 4 (some .int)) 3 59 0 0 [.ref a0, .int i1, .int i2] h (pI Q) := by
  refine Ct.of (own := RX3) false (by decide +kernel) rfl (show (_ : Nat) ≤ _ from Nat.le_of_ble_eq_true rfl) (fun z => by cases z) (fun V C => ?_)
  show V h 0 0 0 [(0, .ref a0), (1, .int i1), (2, .int i2)] []
  unfold w_X3_ofSeal at hw
  refine r_aload_n C rfl 0 rfl dX3_ofSeal_0 (r_aload_n C rfl 0 rfl dX3_ofSeal_1 ?_)
  refine r_gfR (k := 1) C kX3 (by decide) (Or.inl q2156) (Or.inl rfl) dX3_ofSeal_2 hw (fun v33 hw => ?_)
  refine r_iload_n C rfl 1 rfl dX3_ofSeal_5 ?_
  obtain ⟨y34, rfl, hw_y34⟩ := hw
  have hw := hw_y34
  refine r_callS (rest := [.ref a0]) (As := [.ref y34, .int i1]) C sg_X3_hasSeal q2304 q2305 q90 q2306 rfl (Nat.le_of_ble_eq_true rfl) dX3_ofSeal_6 rfl (Nat.le_refl _) (Nat.le_refl _) (c_X3_hasSeal G l y34 i1 h _ hw) (k_Z (fun r35 h36 hw => ?_))
  refine r_if_ne_b (tgt := 16) C (by decide) dX3_ofSeal_9 (fun hc37 => ?_) (fun hc37 => ?_)
  · have hw := hw.1 hc37
    refine r_iload_n C rfl 2 rfl dX3_ofSeal_16 (r_i2l C dX3_ofSeal_17 (r_lconst (v := (0 : Int64)) C (by decide) dX3_ofSeal_18 (r_ldc2 (v := (7 : Int64)) C q2429 dX3_ofSeal_19 ?_)))
    refine r_callS (rest := [.ref a0]) (As := [.long i2.toInt64, .long (0 : Int64), .long (7 : Int64)]) C sg_X3_in q2219 q2220 q90 q2221 rfl (Nat.le_of_ble_eq_true rfl) dX3_ofSeal_22 rfl (Nat.le_refl _) (Nat.le_refl _) (c_X3_in G l i2.toInt64 (0 : Int64) (7 : Int64) h36 _ hw) (k_Z (fun r38 h39 hw => ?_))
    have hJ : V h39 0 0 33 [(0, .ref a0), (1, .int i1), (2, .int i2)] [.int (if r38 = true then (0 : Int32) else (2 : Int32)), .ref a0] := by
      exact r_sub C [0, 1, 2] rfl (b_X3_ofSeal_33 C _ _ _ _ _ _ hw)
    refine r_if_ne_b (tgt := 32) C (by decide) dX3_ofSeal_25 (fun hc40 => ?_) (fun hc40 => ?_)
    · have hJ41 := hJ
      try simp only [if_pos hc40] at hJ41
      refine r_iconst (v := (0 : Int32)) C (by decide) dX3_ofSeal_32 ?_
      exact r_sub C [0, 1, 2] rfl hJ41
    · have hJ41 := hJ
      try simp only [if_neg (show ¬ r38 = true from by rw [hc40]; decide)] at hJ41
      refine r_iconst (v := (2 : Int32)) C (by decide) dX3_ofSeal_28 (r_goto (tgt := 33) C (by decide) dX3_ofSeal_29 ?_)
      exact r_sub C [0, 1, 2] rfl hJ41
  · have hw := hw.2 hc37
    refine r_iconst (v := (1 : Int32)) C (by decide) dX3_ofSeal_12 (r_goto (tgt := 33) C (by decide) dX3_ofSeal_13 ?_)
    exact r_sub C [0, 1, 2] rfl (b_X3_ofSeal_33 C _ _ _ _ _ _ hw)
