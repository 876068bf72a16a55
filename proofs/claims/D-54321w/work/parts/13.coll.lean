set_option maxRecDepth 100000
set_option maxHeartbeats 4000000

def w_X1_isIn (j0 : Int64) (j2 : Int64) (j4 : Int64) (h : Hp) (Q : Bool → Hp → Prop) : Prop :=
  Q (if (lg_cmp j0 j2) < 0 then false else (if 0 < (lg_cmp j0 j4) then false else true)) h
theorem sg_X1_isIn : ySg yX1_isIn 3 = true := by decide +kernel
theorem c_X1_isIn (G : gT) (l : Launch) (j0 : Int64) (j2 : Int64) (j4 : Int64) (h : Hp) (Q : Bool → Hp → Prop) (hw : w_X1_isIn j0 j2 j4 h Q) : Ct G l yX1_isIn (ws_ yX1_isIn cX1_isIn 6 (some .boolean)) 1 12 0 0 [.long j0, .long j2, .long j4] h (pZ Q) := by
  refine Ct.of (own := RX1) false (by decide +kernel) rfl (show (_ : Nat) ≤ _ from Nat.le_of_ble_eq_true rfl) (fun z => by cases z) (fun V C => ?_)
  show V h 0 0 0 [(0, .long j0), (2, .long j2), (4, .long j4)] []
  unfold w_X1_isIn at hw
  refine r_lload_n C rfl 0 rfl dX1_isIn_0 (r_lload_n C rfl 1 rfl dX1_isIn_1 (r_lcmp C dX1_isIn_2 ?_))
  have hJ : V h 0 0 18 [] [.int (bI (if (lg_cmp j0 j2) < 0 then false else (if 0 < (lg_cmp j0 j4) then false else true)))] := by
    exact r_zreturn (x := (if (lg_cmp j0 j2) < 0 then false else (if 0 < (lg_cmp j0 j4) then false else true))) C dX1_isIn_18 (Nat.le_refl _) (Nat.le_refl _) ⟨_, rfl, hw⟩
  refine r_if_lt (tgt := 17) C (by decide) dX1_isIn_3 (fun hc1 => ?_) (fun hc1 => ?_)
  · have hJ2 := hJ
    try simp only [if_pos hc1] at hJ2
    refine r_iconst (v := (0 : Int32)) C (by decide) dX1_isIn_17 ?_
    exact r_sub C [] rfl hJ2
  · have hJ2 := hJ
    try simp only [if_neg hc1] at hJ2
    refine r_lload_n C rfl 0 rfl dX1_isIn_6 (r_lload C 2 rfl dX1_isIn_7 (r_lcmp C dX1_isIn_9 ?_))
    refine r_if_gt (tgt := 17) C (by decide) dX1_isIn_10 (fun hc3 => ?_) (fun hc3 => ?_)
    · have hJ4 := hJ2
      try simp only [if_pos hc3] at hJ4
      refine r_iconst (v := (0 : Int32)) C (by decide) dX1_isIn_17 ?_
      exact r_sub C [] rfl hJ4
    · have hJ4 := hJ2
      try simp only [if_neg hc3] at hJ4
      refine r_iconst (v := (1 : Int32)) C (by decide) dX1_isIn_13 (r_goto (tgt := 18) C (by decide) dX1_isIn_14 ?_)
      exact r_sub C [] rfl hJ4
def S_X2_used_5 (Q : Bool → Hp → Prop) (LA5 : Hp → Nat → Int32 → Int32 → Int32 → Int32 → Prop) (h : Hp) (x0 : Nat) (x1 : Int32) (x2 : Int32) (x3 : Int32) (x4 : Int32) : Prop :=
  gfR h x0 1 0 (fun v1 => nn v1 (fun y2 => hasC h y2 8 ∧ (wj_J2_size y2 h (fun r4 h5 => (r4 ≤ x4 → (x3 = (-1 : Int32) → Q false h5) ∧ (¬ x3 = (-1 : Int32) → gfR h5 x0 1 0 (fun v8 => nn v8 (fun y9 => hasC h5 y9 8 ∧ (wj_J2_get y9 x3 h5 (fun r11 h12 => (∀ z13 : Nat, r11 = some z13 → hasC h12 z13 3) ∧ (nn r11 (fun y15 => gfI h12 y15 3 1 (fun v16 => Q (if ¬ ((v16 >>> (x1 &&& 31)) &&& (1 : Int32)) = (1 : Int32) then false else true) h12))))))))) ∧ (¬ r4 ≤ x4 → gfR h5 x0 1 0 (fun v19 => nn v19 (fun y20 => hasC h5 y20 8 ∧ (wj_J2_get y20 x4 h5 (fun r22 h23 => (∀ z24 : Nat, r22 = some z24 → hasC h23 z24 3) ∧ (nn r22 (fun y26 => gfI h23 y26 3 0 (fun v27 => LA5 h23 x0 x1 x2 (if x2 < v27 then x3 else x4) (x4 + (1 : Int32))))))))))))))
def B_X2_used_5 (Q : Bool → Hp → Prop) : Nat → Hp → Nat → Int32 → Int32 → Int32 → Int32 → Prop
  | 0, _, _, _, _, _, _ => False
  | k + 1, h, x0, x1, x2, x3, x4 => S_X2_used_5 Q (B_X2_used_5 Q k) h x0 x1 x2 x3 x4
def w_X2_used (a0 : Nat) (i1 : Int32) (i2 : Int32) (h : Hp) (Q : Bool → Hp → Prop) : Prop :=
  ∃ k9 : Nat, B_X2_used_5 Q k9 h a0 i1 i2 (-1 : Int32) (0 : Int32)
theorem s_X2_used_5 {G : gT} {l : Launch} {V : Hp → Nat → Nat → Nat → List (Nat × Value) → List Value → Prop} {Q : Bool → Hp → Prop} (C : Cx G l V cX2_used 5 RX2 4 76 0 0 (pZ Q) none (some .boolean) [] false) (LA5 : Hp → Nat → Int32 → Int32 → Int32 → Int32 → Prop) (hLA5 : ∀ (h : Hp) (x0 : Nat) (x1 : Int32) (x2 : Int32) (x3 : Int32) (x4 : Int32), LA5 h x0 x1 x2 x3 x4 → V h 0 0 5 [(0, .ref x0), (1, .int x1), (2, .int x2), (3, .int x3), (4, .int x4)] []) (h : Hp) (x0 : Nat) (x1 : Int32) (x2 : Int32) (x3 : Int32) (x4 : Int32) (hw : S_X2_used_5 Q LA5 h x0 x1 x2 x3 x4) : V h 0 0 5 [(0, .ref x0), (1, .int x1), (2, .int x2), (3, .int x3), (4, .int x4)] [] := by
  unfold S_X2_used_5 at hw
  refine r_iload C 4 rfl dX2_used_5 (r_aload_n C rfl 0 rfl dX2_used_7 ?_)
  refine r_gfR (k := 0) C kX2 (by decide) (Or.inl q301) (Or.inl rfl) dX2_used_8 hw (fun v1 hw => ?_)
  obtain ⟨y2, rfl, hw_y2⟩ := hw
  have hw := hw_y2
  obtain ⟨hq3, hw⟩ := hw
  refine r_callF (ci := 8) (rest := [.int x4]) (As := []) C (x := ⟨"java/util/List", "size", "()I"⟩) (show ySg ⟨"java/util/List", "size", "()I"⟩ 0 = true by decide +kernel) rfl q411 q414 q416 q81 q418 (List.mem_of_getElem? (i := 2) rfl) rfl (Nat.le_of_ble_eq_true rfl) dX2_used_11 rfl hq3 (Nat.le_refl _) (Nat.le_refl _) (cj_J2_size G l y2 h _ hw) (k_I (fun r4 h5 hw => ?_))
  refine r_icmp_ge (tgt := 53) C (by decide) dX2_used_16 (fun hc6 => ?_) (fun hc6 => ?_)
  · have hw := hw.1 hc6
    refine r_iload_n C rfl 3 rfl dX2_used_53 (r_iconst (v := (-1 : Int32)) C (by decide) dX2_used_54 ?_)
    refine r_icmp_eq (tgt := 86) C (by decide) dX2_used_55 (fun hc7 => ?_) (fun hc7 => ?_)
    · have hw := hw.1 hc7
      refine r_iconst (v := (0 : Int32)) C (by decide) dX2_used_86 ?_
      exact r_zreturn (x := false) C dX2_used_87 (Nat.le_refl _) (Nat.le_refl _) ⟨_, rfl, hw⟩
    · have hw := hw.2 hc7
      refine r_aload_n C rfl 0 rfl dX2_used_58 ?_
      refine r_gfR (k := 0) C kX2 (by decide) (Or.inl q301) (Or.inl rfl) dX2_used_59 hw (fun v8 hw => ?_)
      refine r_iload_n C rfl 3 rfl dX2_used_62 ?_
      obtain ⟨y9, rfl, hw_y9⟩ := hw
      have hw := hw_y9
      obtain ⟨hq10, hw⟩ := hw
      refine r_callF (ci := 8) (rest := []) (As := [.int x3]) C (x := ⟨"java/util/List", "get", "(I)Ljava/lang/Object;"⟩) (show ySg ⟨"java/util/List", "get", "(I)Ljava/lang/Object;"⟩ 1 = true by decide +kernel) rfl q450 q453 q455 q81 q457 (List.mem_of_getElem? (i := 6) rfl) rfl (Nat.le_of_ble_eq_true rfl) dX2_used_63 rfl hq10 (Nat.le_refl _) (Nat.le_refl _) (cj_J2_get G l y9 x3 h5 _ hw) (k_R (fun r11 h12 hw => ?_))
      obtain ⟨e14, hw⟩ := hw
      refine r_cast (x := r11) C (ci := 3) rfl q803 dX2_used_68 e14 ?_
      obtain ⟨y15, rfl, hw_y15⟩ := hw
      have hw := hw_y15
      refine r_gfI (k := 1) C kX4 (by decide) (Or.inr ⟨_, (List.mem_of_getElem? (i := 14) rfl)⟩) (Or.inl rfl) dX2_used_71 hw (fun v16 hw => ?_)
      refine r_iload_n C rfl 1 rfl dX2_used_74 (r_ishr C dX2_used_75 (r_iconst (v := (1 : Int32)) C (by decide) dX2_used_76 (r_iand C dX2_used_77 (r_iconst (v := (1 : Int32)) C (by decide) dX2_used_78 ?_))))
      have hJ : V h12 0 0 87 [] [.int (bI (if ¬ ((v16 >>> (x1 &&& 31)) &&& (1 : Int32)) = (1 : Int32) then false else true))] := by
        exact r_zreturn (x := (if ¬ ((v16 >>> (x1 &&& 31)) &&& (1 : Int32)) = (1 : Int32) then false else true)) C dX2_used_87 (Nat.le_refl _) (Nat.le_refl _) ⟨_, rfl, hw⟩
      refine r_icmp_ne (tgt := 86) C (by decide) dX2_used_79 (fun hc17 => ?_) (fun hc17 => ?_)
      · have hJ18 := hJ
        try simp only [if_pos hc17] at hJ18
        refine r_iconst (v := (0 : Int32)) C (by decide) dX2_used_86 ?_
        exact r_sub C [] rfl hJ18
      · have hJ18 := hJ
        try simp only [if_neg (show ¬ ¬ ((v16 >>> (x1 &&& 31)) &&& (1 : Int32)) = (1 : Int32) from fun z => z hc17)] at hJ18
        refine r_iconst (v := (1 : Int32)) C (by decide) dX2_used_82 (r_goto (tgt := 87) C (by decide) dX2_used_83 ?_)
        exact r_sub C [] rfl hJ18
  · have hw := hw.2 hc6
    refine r_aload_n C rfl 0 rfl dX2_used_19 ?_
    refine r_gfR (k := 0) C kX2 (by decide) (Or.inl q301) (Or.inl rfl) dX2_used_20 hw (fun v19 hw => ?_)
    refine r_iload C 4 rfl dX2_used_23 ?_
    obtain ⟨y20, rfl, hw_y20⟩ := hw
    have hw := hw_y20
    obtain ⟨hq21, hw⟩ := hw
    refine r_callF (ci := 8) (rest := []) (As := [.int x4]) C (x := ⟨"java/util/List", "get", "(I)Ljava/lang/Object;"⟩) (show ySg ⟨"java/util/List", "get", "(I)Ljava/lang/Object;"⟩ 1 = true by decide +kernel) rfl q450 q453 q455 q81 q457 (List.mem_of_getElem? (i := 6) rfl) rfl (Nat.le_of_ble_eq_true rfl) dX2_used_25 rfl hq21 (Nat.le_refl _) (Nat.le_refl _) (cj_J2_get G l y20 x4 h5 _ hw) (k_R (fun r22 h23 hw => ?_))
    obtain ⟨e25, hw⟩ := hw
    refine r_cast (x := r22) C (ci := 3) rfl q803 dX2_used_30 e25 ?_
    obtain ⟨y26, rfl, hw_y26⟩ := hw
    have hw := hw_y26
    refine r_gfI (k := 0) C kX4 (by decide) (Or.inr ⟨_, (List.mem_of_getElem? (i := 12) rfl)⟩) (Or.inl rfl) dX2_used_33 hw (fun v27 hw => ?_)
    refine r_iload_n C rfl 2 rfl dX2_used_36 ?_
    have hJ : V h23 0 0 46 [(0, .ref x0), (1, .int x1), (2, .int x2), (4, .int x4)] [.int (if x2 < v27 then x3 else x4)] := by
      refine r_istore_n (L' := [(3, .int (if x2 < v27 then x3 else x4)), (0, .ref x0), (1, .int x1), (2, .int x2), (4, .int x4)]) C rfl (by decide) rfl dX2_used_46 (r_iinc (v := x4 + (1 : Int32)) (L' := [(4, .int (x4 + (1 : Int32))), (3, .int (if x2 < v27 then x3 else x4)), (0, .ref x0), (1, .int x1), (2, .int x2)]) C (u := 4) rfl (by rfl) (by decide) rfl dX2_used_47 (r_goto (tgt := 5) C (by decide) dX2_used_50 ?_))
      exact r_sub C [2, 3, 4, 1, 0] rfl (hLA5 _ _ _ _ _ _ hw)
    refine r_icmp_gt (tgt := 45) C (by decide) dX2_used_37 (fun hc28 => ?_) (fun hc28 => ?_)
    · have hJ29 := hJ
      try simp only [if_pos hc28] at hJ29
      refine r_iload_n C rfl 3 rfl dX2_used_45 ?_
      exact r_sub C [0, 1, 2, 4] rfl hJ29
    · have hJ29 := hJ
      try simp only [if_neg hc28] at hJ29
      refine r_iload C 4 rfl dX2_used_40 (r_goto (tgt := 46) C (by decide) dX2_used_42 ?_)
      exact r_sub C [0, 1, 2, 4] rfl hJ29
theorem b_X2_used_5 {G : gT} {l : Launch} {V : Hp → Nat → Nat → Nat → List (Nat × Value) → List Value → Prop} {Q : Bool → Hp → Prop} (C : Cx G l V cX2_used 5 RX2 4 76 0 0 (pZ Q) none (some .boolean) [] false) : ∀ (k : Nat) (h : Hp) (x0 : Nat) (x1 : Int32) (x2 : Int32) (x3 : Int32) (x4 : Int32), B_X2_used_5 Q k h x0 x1 x2 x3 x4 → V h 0 0 5 [(0, .ref x0), (1, .int x1), (2, .int x2), (3, .int x3), (4, .int x4)] [] := by
  intro k
  induction k with
  | zero =>
    intro h x0 x1 x2 x3 x4 hw
    exact hw.elim
  | succ k ih =>
    intro h x0 x1 x2 x3 x4 hw
    exact s_X2_used_5 C _ (fun h x0 x1 x2 x3 x4 hw => ih h x0 x1 x2 x3 x4 hw) h x0 x1 x2 x3 x4 hw
theorem sg_X2_used : ySg yX2_used 2 = true := by decide +kernel
theorem c_X2_used (G : gT) (l : Launch) (a0 : Nat) (i1 : Int32) (i2 : Int32) (h : Hp) (Q : Bool → Hp → Prop) (hw : w_X2_used a0 i1 i2 h Q) : Ct G l yX2_used (ws_ yX2_used cX2_used 5 (some .boolean)) 4 76 0 0 [.ref a0, .int i1, .int i2] h (pZ Q) := by
  refine Ct.of (own := RX2) false (by decide +kernel) rfl (show (_ : Nat) ≤ _ from Nat.le_of_ble_eq_true rfl) (fun z => by cases z) (fun V C => ?_)
  show V h 0 0 0 [(0, .ref a0), (1, .int i1), (2, .int i2)] []
  unfold w_X2_used at hw
  refine r_iconst (v := (-1 : Int32)) C (by decide) dX2_used_0 (r_istore_n (L' := [(3, .int (-1 : Int32)), (0, .ref a0), (1, .int i1), (2, .int i2)]) C rfl (by decide) rfl dX2_used_1 (r_iconst (v := (0 : Int32)) C (by decide) dX2_used_2 (r_istore (L' := [(4, .int (0 : Int32)), (3, .int (-1 : Int32)), (0, .ref a0), (1, .int i1), (2, .int i2)]) C (by decide) rfl dX2_used_3 ?_)))
  obtain ⟨k9, hw⟩ := hw
  exact r_sub C [2, 3, 4, 1, 0] rfl (b_X2_used_5 C _ _ _ _ _ _ _ hw)
def B_X7_allows_164 (Q : Bool → Hp → Prop) (LA61 : Hp → Nat → Int32 → Int32 → Int32 → Prop) (h : Hp) (x0 : Nat) (x1 : Int32) (x3 : Int32) (s0 : Int32) (s1 : Bool) : Prop :=
  LA61 h x0 x1 (s0 &&& (bI s1)) (x3 + (1 : Int32))
def S_X7_allows_61 (Q : Bool → Hp → Prop) (LA61 : Hp → Nat → Int32 → Int32 → Int32 → Prop) (h : Hp) (x0 : Nat) (x1 : Int32) (x2 : Int32) (x3 : Int32) : Prop :=
  gfR h x0 6 0 (fun v1 => nn v1 (fun y2 => gfR h y2 4 3 (fun v3 => nn v3 (fun y4 => hasC h y4 8 ∧ (wj_J2_size y4 h (fun r6 h7 => (r6 ≤ x3 → ∃ b9 : Bool, x2 = bI b9 ∧ Q b9 h7) ∧ (¬ r6 ≤ x3 → gfR h7 x0 6 1 (fun v10 => nn v10 (fun y11 => gfI h7 y11 5 4 (fun v12 => ((if ¬ ((v12 >>> (x3 &&& 31)) &&& (1 : Int32)) = (1 : Int32) then false else true) = false → gfR h7 x0 6 0 (fun v14 => nn v14 (fun y15 => gfR h7 y15 4 3 (fun v16 => nn v16 (fun y17 => hasC h7 y17 8 ∧ (wj_J2_get y17 x3 h7 (fun r19 h20 => (∀ z21 : Nat, r19 = some z21 → hasC h20 z21 12) ∧ (nn r19 (fun y23 => hasC h20 y23 12 ∧ (wj_J24_intValue y23 h20 (fun r25 h26 => B_X7_allows_164 Q LA61 h26 x0 x1 x3 x2 (if r25 < x1 then false else true)))))))))))) ∧ ((if ¬ ((v12 >>> (x3 &&& 31)) &&& (1 : Int32)) = (1 : Int32) then false else true) = true → gfR h7 x0 6 0 (fun v29 => nn v29 (fun y30 => gfR h7 y30 4 3 (fun v31 => nn v31 (fun y32 => hasC h7 y32 8 ∧ (wj_J2_get y32 x3 h7 (fun r34 h35 => (∀ z36 : Nat, r34 = some z36 → hasC h35 z36 12) ∧ (nn r34 (fun y38 => hasC h35 y38 12 ∧ (wj_J24_intValue y38 h35 (fun r40 h41 => B_X7_allows_164 Q LA61 h41 x0 x1 x3 x2 (if x1 < r40 then false else true))))))))))))))))))))))
def B_X7_allows_61 (Q : Bool → Hp → Prop) : Nat → Hp → Nat → Int32 → Int32 → Int32 → Prop
  | 0, _, _, _, _, _ => False
  | k + 1, h, x0, x1, x2, x3 => S_X7_allows_61 Q (B_X7_allows_61 Q k) h x0 x1 x2 x3
def B_X7_allows_58 (Q : Bool → Hp → Prop) (h : Hp) (x0 : Nat) (x1 : Int32) (s0 : Bool) : Prop :=
  ∃ k9 : Nat, B_X7_allows_61 Q k9 h x0 x1 (bI s0) (0 : Int32)
def w_X7_allows (a0 : Nat) (i1 : Int32) (h : Hp) (Q : Bool → Hp → Prop) : Prop :=
  gfR h a0 6 0 (fun v46 => nn v46 (fun y47 => gfI h y47 4 1 (fun v48 => gfR h a0 6 0 (fun v49 => nn v49 (fun y50 => gfI h y50 4 2 (fun v51 => w_X1_isIn i1.toInt64 v48.toInt64 v51.toInt64 h (fun r52 h53 => (r52 = false → B_X7_allows_58 Q h53 a0 i1 false) ∧ (r52 = true → gfR h53 a0 6 1 (fun v55 => nn v55 (fun y56 => gfI h53 y56 5 2 (fun v57 => (v57 = (-1 : Int32) → B_X7_allows_58 Q h53 a0 i1 true) ∧ (¬ v57 = (-1 : Int32) → gfR h53 a0 6 2 (fun v59 => gfR h53 a0 6 1 (fun v60 => nn v60 (fun y61 => gfI h53 y61 5 2 (fun v62 => nn v59 (fun y63 => hasC h53 y63 1 ∧ (w_X2_used y63 v62 i1 h53 (fun r65 h66 => B_X7_allows_58 Q h66 a0 i1 (if r65 = false then false else true))))))))))))))))))))
theorem b_X7_allows_164 {G : gT} {l : Launch} {V : Hp → Nat → Nat → Nat → List (Nat × Value) → List Value → Prop} {Q : Bool → Hp → Prop} (C : Cx G l V cX7_allows 5 RX7 5 100 0 0 (pZ Q) none (some .boolean) [] false) (LA61 : Hp → Nat → Int32 → Int32 → Int32 → Prop) (hLA61 : ∀ (h : Hp) (x0 : Nat) (x1 : Int32) (x2 : Int32) (x3 : Int32), LA61 h x0 x1 x2 x3 → V h 0 0 61 [(0, .ref x0), (1, .int x1), (2, .int x2), (3, .int x3)] []) (h : Hp) (x0 : Nat) (x1 : Int32) (x3 : Int32) (s0 : Int32) (s1 : Bool) (hw : B_X7_allows_164 Q LA61 h x0 x1 x3 s0 s1) : V h 0 0 164 [(0, .ref x0), (1, .int x1), (3, .int x3)] [.int (bI s1), .int s0] := by
  unfold B_X7_allows_164 at hw
  refine r_iand C dX7_allows_164 (r_istore_n (L' := [(2, .int (s0 &&& (bI s1))), (0, .ref x0), (1, .int x1), (3, .int x3)]) C rfl (by decide) rfl dX7_allows_165 (r_iinc (v := x3 + (1 : Int32)) (L' := [(3, .int (x3 + (1 : Int32))), (2, .int (s0 &&& (bI s1))), (0, .ref x0), (1, .int x1)]) C (u := 3) rfl (by rfl) (by decide) rfl dX7_allows_166 (r_goto (tgt := 61) C (by decide) dX7_allows_169 ?_)))
  exact r_sub C [2, 3, 1, 0] rfl (hLA61 _ _ _ _ _ hw)
theorem s_X7_allows_61 {G : gT} {l : Launch} {V : Hp → Nat → Nat → Nat → List (Nat × Value) → List Value → Prop} {Q : Bool → Hp → Prop} (C : Cx G l V cX7_allows 5 RX7 5 100 0 0 (pZ Q) none (some .boolean) [] false) (LA61 : Hp → Nat → Int32 → Int32 → Int32 → Prop) (hLA61 : ∀ (h : Hp) (x0 : Nat) (x1 : Int32) (x2 : Int32) (x3 : Int32), LA61 h x0 x1 x2 x3 → V h 0 0 61 [(0, .ref x0), (1, .int x1), (2, .int x2), (3, .int x3)] []) (h : Hp) (x0 : Nat) (x1 : Int32) (x2 : Int32) (x3 : Int32) (hw : S_X7_allows_61 Q LA61 h x0 x1 x2 x3) : V h 0 0 61 [(0, .ref x0), (1, .int x1), (2, .int x2), (3, .int x3)] [] := by
  unfold S_X7_allows_61 at hw
  refine r_iload_n C rfl 3 rfl dX7_allows_61 (r_aload_n C rfl 0 rfl dX7_allows_62 ?_)
  refine r_gfR (k := 0) C kX7 (by decide) (Or.inl q1439) (Or.inl rfl) dX7_allows_63 hw (fun v1 hw => ?_)
  obtain ⟨y2, rfl, hw_y2⟩ := hw
  have hw := hw_y2
  refine r_gfR (k := 3) C kX5 (by decide) (Or.inr ⟨_, (List.mem_of_getElem? (i := 22) rfl)⟩) (Or.inl rfl) dX7_allows_66 hw (fun v3 hw => ?_)
  obtain ⟨y4, rfl, hw_y4⟩ := hw
  have hw := hw_y4
  obtain ⟨hq5, hw⟩ := hw
  refine r_callF (ci := 8) (rest := [.int x3]) (As := []) C (x := ⟨"java/util/List", "size", "()I"⟩) (show ySg ⟨"java/util/List", "size", "()I"⟩ 0 = true by decide +kernel) rfl q1470 q414 q416 q81 q418 (List.mem_of_getElem? (i := 2) rfl) rfl (Nat.le_of_ble_eq_true rfl) dX7_allows_69 rfl hq5 (Nat.le_refl _) (Nat.le_refl _) (cj_J2_size G l y4 h _ hw) (k_I (fun r6 h7 hw => ?_))
  refine r_icmp_ge (tgt := 172) C (by decide) dX7_allows_74 (fun hc8 => ?_) (fun hc8 => ?_)
  · have hw := hw.1 hc8
    refine r_iload_n C rfl 2 rfl dX7_allows_172 ?_
    obtain ⟨b9, e9, hw⟩ := hw
    rw [e9]
    exact r_zreturn (x := b9) C dX7_allows_173 (Nat.le_refl _) (Nat.le_refl _) ⟨_, rfl, hw⟩
  · have hw := hw.2 hc8
    refine r_aload_n C rfl 0 rfl dX7_allows_77 ?_
    refine r_gfR (k := 1) C kX7 (by decide) (Or.inl q1440) (Or.inl rfl) dX7_allows_78 hw (fun v10 hw => ?_)
    obtain ⟨y11, rfl, hw_y11⟩ := hw
    have hw := hw_y11
    refine r_gfI (k := 4) C kX6 (by decide) (Or.inr ⟨_, (List.mem_of_getElem? (i := 36) rfl)⟩) (Or.inl rfl) dX7_allows_81 hw (fun v12 hw => ?_)
    refine r_iload_n C rfl 3 rfl dX7_allows_84 (r_ishr C dX7_allows_85 (r_iconst (v := (1 : Int32)) C (by decide) dX7_allows_86 (r_iand C dX7_allows_87 (r_iconst (v := (1 : Int32)) C (by decide) dX7_allows_88 ?_))))
    have hJ : V h7 0 0 97 [(0, .ref x0), (1, .int x1), (2, .int x2), (3, .int x3)] [.int (bI (if ¬ ((v12 >>> (x3 &&& 31)) &&& (1 : Int32)) = (1 : Int32) then false else true))] := by
      refine r_istore (L' := [(4, .int (bI (if ¬ ((v12 >>> (x3 &&& 31)) &&& (1 : Int32)) = (1 : Int32) then false else true))), (0, .ref x0), (1, .int x1), (2, .int x2), (3, .int x3)]) C (by decide) rfl dX7_allows_97 (r_iload_n C rfl 3 rfl dX7_allows_99 (r_iload C 0 rfl dX7_allows_100 ?_))
      refine r_if_eq_b (tgt := 136) C (by decide) dX7_allows_102 (fun hc13 => ?_) (fun hc13 => ?_)
      · have hw := hw.1 hc13
        refine r_iload_n C rfl 2 rfl dX7_allows_136 (r_aload_n C rfl 1 rfl dX7_allows_137 ?_)
        refine r_gfR (k := 0) C kX7 (by decide) (Or.inl q1439) (Or.inl rfl) dX7_allows_138 hw (fun v14 hw => ?_)
        obtain ⟨y15, rfl, hw_y15⟩ := hw
        have hw := hw_y15
        refine r_gfR (k := 3) C kX5 (by decide) (Or.inr ⟨_, (List.mem_of_getElem? (i := 22) rfl)⟩) (Or.inl rfl) dX7_allows_141 hw (fun v16 hw => ?_)
        refine r_iload_n C rfl 4 rfl dX7_allows_144 ?_
        obtain ⟨y17, rfl, hw_y17⟩ := hw
        have hw := hw_y17
        obtain ⟨hq18, hw⟩ := hw
        refine r_callF (ci := 8) (rest := [.int x1, .int x2]) (As := [.int x3]) C (x := ⟨"java/util/List", "get", "(I)Ljava/lang/Object;"⟩) (show ySg ⟨"java/util/List", "get", "(I)Ljava/lang/Object;"⟩ 1 = true by decide +kernel) rfl q1472 q453 q455 q81 q457 (List.mem_of_getElem? (i := 6) rfl) rfl (Nat.le_of_ble_eq_true rfl) dX7_allows_145 rfl hq18 (Nat.le_refl _) (Nat.le_refl _) (cj_J2_get G l y17 x3 h7 _ hw) (k_R (fun r19 h20 hw => ?_))
        obtain ⟨e22, hw⟩ := hw
        refine r_cast (x := r19) C (ci := 12) rfl q1473 dX7_allows_150 e22 ?_
        obtain ⟨y23, rfl, hw_y23⟩ := hw
        have hw := hw_y23
        obtain ⟨hq24, hw⟩ := hw
        refine r_callV (ci := 12) (rest := [.int x1, .int x2]) (As := []) C sg_J24_intValue rfl rfl q1474 q952 q953 q105 q954 rfl (Nat.le_of_ble_eq_true rfl) dX7_allows_153 rfl hq24 (Nat.le_refl _) (Nat.le_refl _) (cj_J24_intValue G l y23 h20 _ hw) (k_I (fun r25 h26 hw => ?_))
        have hJ : V h26 0 0 164 [(0, .ref x0), (1, .int x1), (3, .int x3)] [.int (bI (if r25 < x1 then false else true)), .int x2] := by
          exact r_sub C [0, 1, 2] rfl (b_X7_allows_164 C LA61 hLA61 _ _ _ _ _ _ hw)
        refine r_icmp_gt (tgt := 163) C (by decide) dX7_allows_156 (fun hc27 => ?_) (fun hc27 => ?_)
        · have hJ28 := hJ
          try simp only [if_pos hc27] at hJ28
          refine r_iconst (v := (0 : Int32)) C (by decide) dX7_allows_163 ?_
          exact r_sub C [1, 2, 4] rfl hJ28
        · have hJ28 := hJ
          try simp only [if_neg hc27] at hJ28
          refine r_iconst (v := (1 : Int32)) C (by decide) dX7_allows_159 (r_goto (tgt := 164) C (by decide) dX7_allows_160 ?_)
          exact r_sub C [1, 2, 4] rfl hJ28
      · have hw := hw.2 hc13
        refine r_iload_n C rfl 2 rfl dX7_allows_105 (r_aload_n C rfl 1 rfl dX7_allows_106 ?_)
        refine r_gfR (k := 0) C kX7 (by decide) (Or.inl q1439) (Or.inl rfl) dX7_allows_107 hw (fun v29 hw => ?_)
        obtain ⟨y30, rfl, hw_y30⟩ := hw
        have hw := hw_y30
        refine r_gfR (k := 3) C kX5 (by decide) (Or.inr ⟨_, (List.mem_of_getElem? (i := 22) rfl)⟩) (Or.inl rfl) dX7_allows_110 hw (fun v31 hw => ?_)
        refine r_iload_n C rfl 4 rfl dX7_allows_113 ?_
        obtain ⟨y32, rfl, hw_y32⟩ := hw
        have hw := hw_y32
        obtain ⟨hq33, hw⟩ := hw
        refine r_callF (ci := 8) (rest := [.int x1, .int x2]) (As := [.int x3]) C (x := ⟨"java/util/List", "get", "(I)Ljava/lang/Object;"⟩) (show ySg ⟨"java/util/List", "get", "(I)Ljava/lang/Object;"⟩ 1 = true by decide +kernel) rfl q1472 q453 q455 q81 q457 (List.mem_of_getElem? (i := 6) rfl) rfl (Nat.le_of_ble_eq_true rfl) dX7_allows_114 rfl hq33 (Nat.le_refl _) (Nat.le_refl _) (cj_J2_get G l y32 x3 h7 _ hw) (k_R (fun r34 h35 hw => ?_))
        obtain ⟨e37, hw⟩ := hw
        refine r_cast (x := r34) C (ci := 12) rfl q1473 dX7_allows_119 e37 ?_
        obtain ⟨y38, rfl, hw_y38⟩ := hw
        have hw := hw_y38
        obtain ⟨hq39, hw⟩ := hw
        refine r_callV (ci := 12) (rest := [.int x1, .int x2]) (As := []) C sg_J24_intValue rfl rfl q1474 q952 q953 q105 q954 rfl (Nat.le_of_ble_eq_true rfl) dX7_allows_122 rfl hq39 (Nat.le_refl _) (Nat.le_refl _) (cj_J24_intValue G l y38 h35 _ hw) (k_I (fun r40 h41 hw => ?_))
        have hJ : V h41 0 0 164 [(0, .ref x0), (1, .int x1), (3, .int x3)] [.int (bI (if x1 < r40 then false else true)), .int x2] := by
          exact r_sub C [0, 1, 2] rfl (b_X7_allows_164 C LA61 hLA61 _ _ _ _ _ _ hw)
        refine r_icmp_lt (tgt := 132) C (by decide) dX7_allows_125 (fun hc42 => ?_) (fun hc42 => ?_)
        · have hJ43 := hJ
          try simp only [if_pos hc42] at hJ43
          refine r_iconst (v := (0 : Int32)) C (by decide) dX7_allows_132 (r_goto (tgt := 164) C (by decide) dX7_allows_133 ?_)
          exact r_sub C [1, 2, 4] rfl hJ43
        · have hJ43 := hJ
          try simp only [if_neg hc42] at hJ43
          refine r_iconst (v := (1 : Int32)) C (by decide) dX7_allows_128 (r_goto (tgt := 164) C (by decide) dX7_allows_129 ?_)
          exact r_sub C [1, 2, 4] rfl hJ43
    refine r_icmp_ne (tgt := 96) C (by decide) dX7_allows_89 (fun hc44 => ?_) (fun hc44 => ?_)
    · have hJ45 := hJ
      try simp only [if_pos hc44] at hJ45
      refine r_iconst (v := (0 : Int32)) C (by decide) dX7_allows_96 ?_
      exact r_sub C [0, 1, 2, 3] rfl hJ45
    · have hJ45 := hJ
      try simp only [if_neg (show ¬ ¬ ((v12 >>> (x3 &&& 31)) &&& (1 : Int32)) = (1 : Int32) from fun z => z hc44)] at hJ45
      refine r_iconst (v := (1 : Int32)) C (by decide) dX7_allows_92 (r_goto (tgt := 97) C (by decide) dX7_allows_93 ?_)
      exact r_sub C [0, 1, 2, 3] rfl hJ45
theorem b_X7_allows_61 {G : gT} {l : Launch} {V : Hp → Nat → Nat → Nat → List (Nat × Value) → List Value → Prop} {Q : Bool → Hp → Prop} (C : Cx G l V cX7_allows 5 RX7 5 100 0 0 (pZ Q) none (some .boolean) [] false) : ∀ (k : Nat) (h : Hp) (x0 : Nat) (x1 : Int32) (x2 : Int32) (x3 : Int32), B_X7_allows_61 Q k h x0 x1 x2 x3 → V h 0 0 61 [(0, .ref x0), (1, .int x1), (2, .int x2), (3, .int x3)] [] := by
  intro k
  induction k with
  | zero =>
    intro h x0 x1 x2 x3 hw
    exact hw.elim
  | succ k ih =>
    intro h x0 x1 x2 x3 hw
    exact s_X7_allows_61 C _ (fun h x0 x1 x2 x3 hw => ih h x0 x1 x2 x3 hw) h x0 x1 x2 x3 hw
theorem b_X7_allows_58 {G : gT} {l : Launch} {V : Hp → Nat → Nat → Nat → List (Nat × Value) → List Value → Prop} {Q : Bool → Hp → Prop} (C : Cx G l V cX7_allows 5 RX7 5 100 0 0 (pZ Q) none (some .boolean) [] false) (h : Hp) (x0 : Nat) (x1 : Int32) (s0 : Bool) (hw : B_X7_allows_58 Q h x0 x1 s0) : V h 0 0 58 [(0, .ref x0), (1, .int x1)] [.int (bI s0)] := by
  unfold B_X7_allows_58 at hw
  refine r_istore_n (L' := [(2, .int (bI s0)), (0, .ref x0), (1, .int x1)]) C rfl (by decide) rfl dX7_allows_58 (r_iconst (v := (0 : Int32)) C (by decide) dX7_allows_59 (r_istore_n (L' := [(3, .int (0 : Int32)), (2, .int (bI s0)), (0, .ref x0), (1, .int x1)]) C rfl (by decide) rfl dX7_allows_60 ?_))
  obtain ⟨k9, hw⟩ := hw
  exact r_sub C [2, 3, 1, 0] rfl (b_X7_allows_61 C _ _ _ _ _ _ hw)
theorem sg_X7_allows : ySg yX7_allows 1 = true := by decide +kernel
theorem c_X7_allows (G : gT) (l : Launch) (a0 : Nat) (i1 : Int32) (h : Hp) (Q : Bool → Hp → Prop) (hw : w_X7_allows a0 i1 h Q) : Ct G l yX7_allows (ws_ yX7_allows cX7_allows 5 (some .boolean)) 5 100 0 0 [.ref a0, .int i1] h (pZ Q) := by
  refine Ct.of (own := RX7) false (by decide +kernel) rfl (show (_ : Nat) ≤ _ from Nat.le_of_ble_eq_true rfl) (fun z => by cases z) (fun V C => ?_)
  show V h 0 0 0 [(0, .ref a0), (1, .int i1)] []
  unfold w_X7_allows at hw
  refine r_iload_n C rfl 1 rfl dX7_allows_0 (r_i2l C dX7_allows_1 (r_aload_n C rfl 0 rfl dX7_allows_2 ?_))
  refine r_gfR (k := 0) C kX7 (by decide) (Or.inl q1439) (Or.inl rfl) dX7_allows_3 hw (fun v46 hw => ?_)
  obtain ⟨y47, rfl, hw_y47⟩ := hw
  have hw := hw_y47
  refine r_gfI (k := 1) C kX5 (by decide) (Or.inr ⟨_, (List.mem_of_getElem? (i := 18) rfl)⟩) (Or.inl rfl) dX7_allows_6 hw (fun v48 hw => ?_)
  refine r_i2l C dX7_allows_9 (r_aload_n C rfl 0 rfl dX7_allows_10 ?_)
  refine r_gfR (k := 0) C kX7 (by decide) (Or.inl q1439) (Or.inl rfl) dX7_allows_11 hw (fun v49 hw => ?_)
  obtain ⟨y50, rfl, hw_y50⟩ := hw
  have hw := hw_y50
  refine r_gfI (k := 2) C kX5 (by decide) (Or.inr ⟨_, (List.mem_of_getElem? (i := 20) rfl)⟩) (Or.inl rfl) dX7_allows_14 hw (fun v51 hw => ?_)
  refine r_i2l C dX7_allows_17 ?_
  refine r_callSN (rest := []) (As := [.long i1.toInt64, .long v48.toInt64, .long v51.toInt64]) C sg_X1_isIn (List.mem_of_getElem? (i := 50) rfl) q400 q77 q401 rfl (Nat.le_of_ble_eq_true rfl) dX7_allows_18 rfl (Nat.le_refl _) (Nat.le_refl _) (c_X1_isIn G l i1.toInt64 v48.toInt64 v51.toInt64 h _ hw) (k_Z (fun r52 h53 hw => ?_))
  refine r_if_eq_b (tgt := 57) C (by decide) dX7_allows_21 (fun hc54 => ?_) (fun hc54 => ?_)
  · have hw := hw.1 hc54
    refine r_iconst (v := (0 : Int32)) C (by decide) dX7_allows_57 ?_
    exact r_sub C [0, 1] rfl (b_X7_allows_58 C _ _ _ _ hw)
  · have hw := hw.2 hc54
    refine r_aload_n C rfl 0 rfl dX7_allows_24 ?_
    refine r_gfR (k := 1) C kX7 (by decide) (Or.inl q1440) (Or.inl rfl) dX7_allows_25 hw (fun v55 hw => ?_)
    obtain ⟨y56, rfl, hw_y56⟩ := hw
    have hw := hw_y56
    refine r_gfI (k := 2) C kX6 (by decide) (Or.inr ⟨_, (List.mem_of_getElem? (i := 31) rfl)⟩) (Or.inl rfl) dX7_allows_28 hw (fun v57 hw => ?_)
    refine r_iconst (v := (-1 : Int32)) C (by decide) dX7_allows_31 ?_
    refine r_icmp_eq (tgt := 53) C (by decide) dX7_allows_32 (fun hc58 => ?_) (fun hc58 => ?_)
    · have hw := hw.1 hc58
      refine r_iconst (v := (1 : Int32)) C (by decide) dX7_allows_53 (r_goto (tgt := 58) C (by decide) dX7_allows_54 ?_)
      exact r_sub C [0, 1] rfl (b_X7_allows_58 C _ _ _ _ hw)
    · have hw := hw.2 hc58
      refine r_aload_n C rfl 0 rfl dX7_allows_35 ?_
      refine r_gfR (k := 2) C kX7 (by decide) (Or.inl q1441) (Or.inl rfl) dX7_allows_36 hw (fun v59 hw => ?_)
      refine r_aload_n C rfl 0 rfl dX7_allows_39 ?_
      refine r_gfR (k := 1) C kX7 (by decide) (Or.inl q1440) (Or.inl rfl) dX7_allows_40 hw (fun v60 hw => ?_)
      obtain ⟨y61, rfl, hw_y61⟩ := hw
      have hw := hw_y61
      refine r_gfI (k := 2) C kX6 (by decide) (Or.inr ⟨_, (List.mem_of_getElem? (i := 31) rfl)⟩) (Or.inl rfl) dX7_allows_43 hw (fun v62 hw => ?_)
      refine r_iload_n C rfl 1 rfl dX7_allows_46 ?_
      obtain ⟨y63, rfl, hw_y63⟩ := hw
      have hw := hw_y63
      obtain ⟨hq64, hw⟩ := hw
      refine r_callVN (ci := 1) (rest := []) (As := [.int v62, .int i1]) C sg_X2_used rfl (List.mem_of_getElem? (i := 51) rfl) q1467 qs27 q78 q1468 rfl (Nat.le_of_ble_eq_true rfl) dX7_allows_47 rfl hq64 (Nat.le_refl _) (Nat.le_refl _) (c_X2_used G l y63 v62 i1 h53 _ hw) (k_Z (fun r65 h66 hw => ?_))
      have hJ : V h66 0 0 58 [(0, .ref a0), (1, .int i1)] [.int (bI (if r65 = false then false else true))] := by
        exact r_sub C [0, 1] rfl (b_X7_allows_58 C _ _ _ _ hw)
      refine r_if_eq_b (tgt := 57) C (by decide) dX7_allows_50 (fun hc67 => ?_) (fun hc67 => ?_)
      · have hJ68 := hJ
        try simp only [if_pos hc67] at hJ68
        refine r_iconst (v := (0 : Int32)) C (by decide) dX7_allows_57 ?_
        exact r_sub C [0, 1] rfl hJ68
      · have hJ68 := hJ
        try simp only [if_neg (show ¬ r65 = false from by rw [hc67]; decide)] at hJ68
        refine r_iconst (v := (1 : Int32)) C (by decide) dX7_allows_53 (r_goto (tgt := 58) C (by decide) dX7_allows_54 ?_)
        exact r_sub C [0, 1] rfl hJ68
def B_X1_years_41 (mc ms : Nat) (Q : Option Nat → Hp → Prop) (LA15 : Hp → Nat → Nat → Nat → Nat → Int32 → Prop) (h : Hp) (c : Nat) (n : Nat) (x0 : Nat) (x1 : Nat) (x2 : Int32) : Prop :=
  LA15 h c n x0 x1 (x2 + (1 : Int32))
def S_X1_years_15 (mc ms : Nat) (Q : Option Nat → Hp → Prop) (LA15 : Hp → Nat → Nat → Nat → Nat → Int32 → Prop) (h : Hp) (c : Nat) (n : Nat) (x0 : Nat) (x1 : Nat) (x2 : Int32) : Prop :=
  ((1999 : Int32) < x2 → Q (some x1) h) ∧ (¬ (1999 : Int32) < x2 → hasC h x0 6 ∧ (w_X7_allows x0 x2 h (fun r3 h4 => (r3 = false → B_X1_years_41 mc ms Q LA15 h4 c n x0 x1 x2) ∧ (r3 = true → hasC h4 x1 15 ∧ (wj_J30_set x1 (x2 - (1000 : Int32)) h4 (fun h8 => B_X1_years_41 mc ms Q LA15 h8 c n x0 x1 x2))))))
def B_X1_years_15 (mc ms : Nat) (Q : Option Nat → Hp → Prop) : Nat → Hp → Nat → Nat → Nat → Nat → Int32 → Prop
  | 0, _, _, _, _, _, _ => False
  | k + 1, h, c, n, x0, x1, x2 => S_X1_years_15 mc ms Q (B_X1_years_15 mc ms Q k) h c n x0 x1 x2
def w_X1_years (mc ms : Nat) (a0 : Nat) (h : Hp) (Q : Option Nat → Hp → Prop) : Prop :=
  0 + 1 ≤ mc ∧ 0 + 3 ≤ ms ∧ (nwO h 15 [.null, .int 0, .int 0] (fun q11 h12 => ∃ k15 k16 : Nat, (0 + 1) + k15 ≤ mc ∧ (0 + 3) + k16 ≤ ms ∧ (wj_J30_init k15 k16 q11 (1000 : Int32) h12 (fun h14 => ∃ k9 : Nat, B_X1_years_15 mc ms Q k9 h14 ((0 + 1) + k15) ((0 + 3) + k16) a0 q11 (1000 : Int32)))))
theorem b_X1_years_41 {G : gT} {l : Launch} {V : Hp → Nat → Nat → Nat → List (Nat × Value) → List Value → Prop} {mc ms : Nat} {Q : Option Nat → Hp → Prop} (C : Cx G l V cX1_years 3 RX1 6 126 mc ms (pR Q) none (some (.object "java/util/BitSet")) [] false) (LA15 : Hp → Nat → Nat → Nat → Nat → Int32 → Prop) (hLA15 : ∀ (h : Hp) (c : Nat) (n : Nat) (x0 : Nat) (x1 : Nat) (x2 : Int32), c ≤ mc → n ≤ ms → LA15 h c n x0 x1 x2 → V h c n 15 [(0, .ref x0), (1, .ref x1), (2, .int x2)] []) (h : Hp) (c : Nat) (n : Nat) (x0 : Nat) (x1 : Nat) (x2 : Int32) (b1 : c ≤ mc) (b2 : n ≤ ms) (hw : B_X1_years_41 mc ms Q LA15 h c n x0 x1 x2) : V h c n 41 [(0, .ref x0), (1, .ref x1), (2, .int x2)] [] := by
  unfold B_X1_years_41 at hw
  refine r_iinc (v := x2 + (1 : Int32)) (L' := [(2, .int (x2 + (1 : Int32))), (0, .ref x0), (1, .ref x1)]) C (u := 2) rfl (by rfl) (by decide) rfl dX1_years_41 (r_goto (tgt := 15) C (by decide) dX1_years_44 ?_)
  exact r_sub C [1, 2, 0] rfl (hLA15 _ _ _ _ _ _ b1 b2 hw)
theorem s_X1_years_15 {G : gT} {l : Launch} {V : Hp → Nat → Nat → Nat → List (Nat × Value) → List Value → Prop} {mc ms : Nat} {Q : Option Nat → Hp → Prop} (C : Cx G l V cX1_years 3 RX1 6 126 mc ms (pR Q) none (some (.object "java/util/BitSet")) [] false) (LA15 : Hp → Nat → Nat → Nat → Nat → Int32 → Prop) (hLA15 : ∀ (h : Hp) (c : Nat) (n : Nat) (x0 : Nat) (x1 : Nat) (x2 : Int32), c ≤ mc → n ≤ ms → LA15 h c n x0 x1 x2 → V h c n 15 [(0, .ref x0), (1, .ref x1), (2, .int x2)] []) (h : Hp) (c : Nat) (n : Nat) (x0 : Nat) (x1 : Nat) (x2 : Int32) (b1 : c ≤ mc) (b2 : n ≤ ms) (hw : S_X1_years_15 mc ms Q LA15 h c n x0 x1 x2) : V h c n 15 [(0, .ref x0), (1, .ref x1), (2, .int x2)] [] := by
  unfold S_X1_years_15 at hw
  refine r_iload_n C rfl 2 rfl dX1_years_15 (r_sipush (v := (1999 : Int32)) C (by decide) dX1_years_16 ?_)
  refine r_icmp_gt (tgt := 47) C (by decide) dX1_years_19 (fun hc1 => ?_) (fun hc1 => ?_)
  · have hw := hw.1 hc1
    refine r_aload_n C rfl 1 rfl dX1_years_47 ?_
    exact r_areturn (x := some x1) C (by first | exact Or.inl ⟨_, rfl⟩ | exact Or.inr ⟨_, rfl⟩) dX1_years_48 b1 b2 ⟨_, rfl, hw⟩
  · have hw := hw.2 hc1
    refine r_aload_n C rfl 0 rfl dX1_years_22 (r_iload_n C rfl 2 rfl dX1_years_23 ?_)
    obtain ⟨hq2, hw⟩ := hw
    refine r_callF (ci := 6) (rest := []) (As := [.int x2]) C (x := ⟨"CordSeals$Rule", "allows", "(I)Z"⟩) (show ySg ⟨"CordSeals$Rule", "allows", "(I)Z"⟩ 1 = true by decide +kernel) rfl q1455 q1459 q1461 q117 q1463 (List.mem_of_getElem? (i := 22) rfl) rfl (Nat.le_of_ble_eq_true rfl) dX1_years_24 rfl hq2 b1 b2 (c_X7_allows G l x0 x2 h _ hw) (k_Z (fun r3 h4 hw => ?_))
    refine r_if_eq_b (tgt := 41) C (by decide) dX1_years_29 (fun hc5 => ?_) (fun hc5 => ?_)
    · have hw := hw.1 hc5
      exact r_sub C [0, 1, 2] rfl (b_X1_years_41 C LA15 hLA15 _ _ _ _ _ _ b1 b2 hw)
    · have hw := hw.2 hc5
      refine r_aload_n C rfl 1 rfl dX1_years_32 (r_iload_n C rfl 2 rfl dX1_years_33 (r_sipush (v := (1000 : Int32)) C (by decide) dX1_years_34 (r_isub C dX1_years_37 ?_)))
      obtain ⟨hq6, hw⟩ := hw
      refine r_callV (ci := 15) (rest := []) (As := [.int (x2 - (1000 : Int32))]) C sg_J30_set rfl rfl q1475 q1476 q1477 q116 q1478 rfl (Nat.le_of_ble_eq_true rfl) dX1_years_38 rfl hq6 b1 b2 (cj_J30_set G l x1 (x2 - (1000 : Int32)) h4 _ hw) (k_V (fun h8 hw => ?_))
      exact r_sub C [0, 1, 2] rfl (b_X1_years_41 C LA15 hLA15 _ _ _ _ _ _ b1 b2 hw)
theorem b_X1_years_15 {G : gT} {l : Launch} {V : Hp → Nat → Nat → Nat → List (Nat × Value) → List Value → Prop} {mc ms : Nat} {Q : Option Nat → Hp → Prop} (C : Cx G l V cX1_years 3 RX1 6 126 mc ms (pR Q) none (some (.object "java/util/BitSet")) [] false) : ∀ (k : Nat) (h : Hp) (c : Nat) (n : Nat) (x0 : Nat) (x1 : Nat) (x2 : Int32), c ≤ mc → n ≤ ms → B_X1_years_15 mc ms Q k h c n x0 x1 x2 → V h c n 15 [(0, .ref x0), (1, .ref x1), (2, .int x2)] [] := by
  intro k
  induction k with
  | zero =>
    intro h c n x0 x1 x2 b1 b2 hw
    exact hw.elim
  | succ k ih =>
    intro h c n x0 x1 x2 b1 b2 hw
    exact s_X1_years_15 C _ (fun h c n x0 x1 x2 b1 b2 hw => ih h c n x0 x1 x2 b1 b2 hw) h c n x0 x1 x2 b1 b2 hw
theorem sg_X1_years : ySg yX1_years 1 = true := by decide +kernel
theorem c_X1_years (G : gT) (l : Launch) (mc ms : Nat) (a0 : Nat) (h : Hp) (Q : Option Nat → Hp → Prop) (hw : w_X1_years mc ms a0 h Q) : Ct G l yX1_years (ws_ yX1_years cX1_years 3 (some (.object "java/util/BitSet"))) 6 126 mc ms [.ref a0] h (pR Q) := by
  refine Ct.of (own := RX1) false (by decide +kernel) rfl (show (_ : Nat) ≤ _ from Nat.le_of_ble_eq_true rfl) (fun z => by cases z) (fun V C => ?_)
  show V h 0 0 0 [(0, .ref a0)] []
  unfold w_X1_years at hw
  obtain ⟨hp9, hp10, hw⟩ := hw
  refine r_new C kJ30 q1452 q1392 q116 df_15 dX1_years_0 hp9 hp10 hw (fun q11 h12 hw => ?_)
  refine r_dup C rfl dX1_years_3 (r_sipush (v := (1000 : Int32)) C (by decide) dX1_years_4 ?_)
  obtain ⟨k15, k16, hp17, hp18, hw⟩ := hw
  refine r_callI (rest := [.ref q11]) (As := [.int (1000 : Int32)]) C sg_J30_init rfl q1453 q1394 q116 q1395 rfl (Nat.le_of_ble_eq_true rfl) dX1_years_7 rfl hp17 hp18 (cj_J30_init G l k15 k16 q11 (1000 : Int32) h12 _ hw) (k_V (fun h14 hw => ?_))
  refine r_astore_n (L' := [(1, .ref q11), (0, .ref a0)]) C rfl (by decide) rfl dX1_years_10 (r_sipush (v := (1000 : Int32)) C (by decide) dX1_years_11 (r_istore_n (L' := [(2, .int (1000 : Int32)), (1, .ref q11), (0, .ref a0)]) C rfl (by decide) rfl dX1_years_14 ?_))
  obtain ⟨k9, hw⟩ := hw
  exact r_sub C [2, 1, 0] rfl (b_X1_years_15 C _ _ _ _ _ _ _ hp17 hp18 hw)
def w_X1_first (a0 : Nat) (h : Hp) (Q : Int32 → Hp → Prop) : Prop :=
  hasC h a0 15 ∧ (wj_J30_nextSetBit a0 (0 : Int32) h (fun r2 h3 => Q (if 0 ≤ r2 then (1000 : Int32) + r2 else (-1 : Int32)) h3))
theorem sg_X1_first : ySg yX1_first 1 = true := by decide +kernel
theorem c_X1_first (G : gT) (l : Launch) (a0 : Nat) (h : Hp) (Q : Int32 → Hp → Prop) (hw : w_X1_first a0 h Q) : Ct G l yX1_first (ws_ yX1_first cX1_first 2 (some .int)) 4 79 0 0 [.ref a0] h (pI Q) := by
  refine Ct.of (own := RX1) false (by decide +kernel) rfl (show (_ : Nat) ≤ _ from Nat.le_of_ble_eq_true rfl) (fun z => by cases z) (fun V C => ?_)
  show V h 0 0 0 [(0, .ref a0)] []
  unfold w_X1_first at hw
  refine r_aload_n C rfl 0 rfl dX1_first_0 (r_iconst (v := (0 : Int32)) C (by decide) dX1_first_1 ?_)
  obtain ⟨hq1, hw⟩ := hw
  refine r_callV (ci := 15) (rest := []) (As := [.int (0 : Int32)]) C sg_J30_nextSetBit rfl rfl q1563 q1564 q1565 q116 q1566 rfl (Nat.le_of_ble_eq_true rfl) dX1_first_2 rfl hq1 (Nat.le_refl _) (Nat.le_refl _) (cj_J30_nextSetBit G l a0 (0 : Int32) h _ hw) (k_I (fun r2 h3 hw => ?_))
  refine r_istore_n (L' := [(1, .int r2), (0, .ref a0)]) C rfl (by decide) rfl dX1_first_5 (r_iload_n C rfl 0 rfl dX1_first_6 ?_)
  have hJ : V h3 0 0 19 [] [.int (if 0 ≤ r2 then (1000 : Int32) + r2 else (-1 : Int32))] := by
    exact r_ireturn C dX1_first_19 (Nat.le_refl _) (Nat.le_refl _) ⟨_, rfl, hw⟩
  refine r_if_ge (tgt := 14) C (by decide) dX1_first_7 (fun hc4 => ?_) (fun hc4 => ?_)
  · have hJ5 := hJ
    try simp only [if_pos hc4] at hJ5
    refine r_sipush (v := (1000 : Int32)) C (by decide) dX1_first_14 (r_iload_n C rfl 0 rfl dX1_first_17 (r_iadd C dX1_first_18 ?_))
    exact r_sub C [] rfl hJ5
  · have hJ5 := hJ
    try simp only [if_neg hc4] at hJ5
    refine r_iconst (v := (-1 : Int32)) C (by decide) dX1_first_10 (r_goto (tgt := 19) C (by decide) dX1_first_11 ?_)
    exact r_sub C [] rfl hJ5
def S_X2_init_66 (mc ms : Nat) (Q : Hp → Prop) (LA66 : Hp → Nat → Nat → Nat → Int32 → Prop) (h : Hp) (c : Nat) (n : Nat) (x0 : Nat) (x1 : Int32) : Prop :=
  ((6 : Int32) ≤ x1 → Q h) ∧ (¬ (6 : Int32) ≤ x1 → gfR h x0 1 3 (fun v2 => c + 1 ≤ mc ∧ n + 4 ≤ ms ∧ (nwO h 9 [.int 0, .int 0, .null, .null] (fun q5 h6 => wj_J4_init q5 h6 (fun h8 => nn v2 (fun y9 => hasC h8 y9 8 ∧ (∃ k13 k14 : Nat, (c + 1) + k13 ≤ mc ∧ (n + 4) + k14 ≤ ms ∧ (wj_J2_add k13 k14 y9 q5 h8 (fun r11 h12 => LA66 h12 ((c + 1) + k13) ((n + 4) + k14) x0 (x1 + (1 : Int32)))))))))))
def B_X2_init_66 (mc ms : Nat) (Q : Hp → Prop) : Nat → Hp → Nat → Nat → Nat → Int32 → Prop
  | 0, _, _, _, _, _ => False
  | k + 1, h, c, n, x0, x1 => S_X2_init_66 mc ms Q (B_X2_init_66 mc ms Q k) h c n x0 x1
def w_X2_init (mc ms : Nat) (a0 : Nat) (h : Hp) (Q : Hp → Prop) : Prop :=
  0 + 1 ≤ mc ∧ 0 + 3 ≤ ms ∧ (nwO h 8 [.int 0, .null, .int 0] (fun q19 h20 => wj_J2_init q19 h20 (fun h22 => pf h22 a0 1 0 (.ref q19) (fun h23 => (0 + 1) + 1 ≤ mc ∧ (0 + 3) + 3 ≤ ms ∧ (nwO h23 8 [.int 0, .null, .int 0] (fun q26 h27 => wj_J2_init q26 h27 (fun h29 => pf h29 a0 1 1 (.ref q26) (fun h30 => ((0 + 1) + 1) + 1 ≤ mc ∧ ((0 + 3) + 3) + 3 ≤ ms ∧ (nwO h30 8 [.int 0, .null, .int 0] (fun q33 h34 => wj_J2_init q33 h34 (fun h36 => pf h36 a0 1 2 (.ref q33) (fun h37 => (((0 + 1) + 1) + 1) + 1 ≤ mc ∧ (((0 + 3) + 3) + 3) + 3 ≤ ms ∧ (nwO h37 8 [.int 0, .null, .int 0] (fun q40 h41 => wj_J2_init q40 h41 (fun h43 => pf h43 a0 1 3 (.ref q40) (fun h44 => ((((0 + 1) + 1) + 1) + 1) + 1 ≤ mc ∧ ((((0 + 3) + 3) + 3) + 3) + 2 ≤ ms ∧ (nwA h44 0 (2, .inl (fun _ => 0)) (fun q47 h48 => wrI h48 q47 (0 : Int32) (10 : Int32) (fun h49 => wrI h49 q47 (1 : Int32) (3 : Int32) (fun h50 => pf h50 a0 1 4 (.ref q47) (fun h51 => ∃ k9 : Nat, B_X2_init_66 mc ms Q k9 h51 (((((0 + 1) + 1) + 1) + 1) + 1) (((((0 + 3) + 3) + 3) + 3) + 2) a0 (0 : Int32))))))))))))))))))))))
theorem s_X2_init_66 {G : gT} {l : Launch} {V : Hp → Nat → Nat → Nat → List (Nat × Value) → List Value → Prop} {mc ms : Nat} {Q : Hp → Prop} (C : Cx G l V cX2_init 2 RX2 7 191 mc ms (pV Q) none (none) [] true) (LA66 : Hp → Nat → Nat → Nat → Int32 → Prop) (hLA66 : ∀ (h : Hp) (c : Nat) (n : Nat) (x0 : Nat) (x1 : Int32), c ≤ mc → n ≤ ms → LA66 h c n x0 x1 → V h c n 66 [(0, .ref x0), (1, .int x1)] []) (h : Hp) (c : Nat) (n : Nat) (x0 : Nat) (x1 : Int32) (b1 : c ≤ mc) (b2 : n ≤ ms) (hw : S_X2_init_66 mc ms Q LA66 h c n x0 x1) : V h c n 66 [(0, .ref x0), (1, .int x1)] [] := by
  unfold S_X2_init_66 at hw
  refine r_iload_n C rfl 1 rfl dX2_init_66 (r_bipush (v := (6 : Int32)) C (by decide) dX2_init_67 ?_)
  refine r_icmp_ge (tgt := 95) C (by decide) dX2_init_69 (fun hc1 => ?_) (fun hc1 => ?_)
  · have hw := hw.1 hc1
    exact r_return C dX2_init_95 b1 b2 ⟨rfl, hw⟩
  · have hw := hw.2 hc1
    refine r_aload_n C rfl 0 rfl dX2_init_72 ?_
    refine r_gfR (k := 3) C kX2 (by decide) (Or.inl q308) (Or.inl rfl) dX2_init_73 hw (fun v2 hw => ?_)
    obtain ⟨hp3, hp4, hw⟩ := hw
    refine r_new C kJ4 q169 q170 q83 df_9 dX2_init_76 hp3 hp4 hw (fun q5 h6 hw => ?_)
    refine r_dup C rfl dX2_init_79 ?_
    refine r_callI (rest := [.ref q5, va_rf v2]) (As := []) C sg_J4_init rfl q171 q172 q83 q173 rfl (by rcases v2 with _ | _ <;> exact Nat.le_of_ble_eq_true rfl) dX2_init_80 rfl hp3 hp4 (cj_J4_init G l q5 h6 _ hw) (k_V (fun h8 hw => ?_))
    obtain ⟨y9, rfl, hw_y9⟩ := hw
    have hw := hw_y9
    obtain ⟨hq10, hw⟩ := hw
    obtain ⟨k13, k14, hp15, hp16, hw⟩ := hw
    refine r_callF (ci := 8) (rest := []) (As := [.ref q5]) C (x := ⟨"java/util/List", "add", "(Ljava/lang/Object;)Z"⟩) (show ySg ⟨"java/util/List", "add", "(Ljava/lang/Object;)Z"⟩ 1 = true by decide +kernel) rfl q192 q196 q198 q81 q200 (List.mem_of_getElem? (i := 0) rfl) rfl (Nat.le_of_ble_eq_true rfl) dX2_init_83 rfl hq10 hp15 hp16 (cj_J2_add G l k13 k14 y9 q5 h8 _ hw) (k_Z (fun r11 h12 hw => ?_))
    refine r_pop C rfl dX2_init_88 (r_iinc (v := x1 + (1 : Int32)) (L' := [(1, .int (x1 + (1 : Int32))), (0, .ref x0)]) C (u := 1) rfl (by rfl) (by decide) rfl dX2_init_89 (r_goto (tgt := 66) C (by decide) dX2_init_92 ?_))
    exact r_sub C [1, 0] rfl (hLA66 _ _ _ _ _ hp15 hp16 hw)
theorem b_X2_init_66 {G : gT} {l : Launch} {V : Hp → Nat → Nat → Nat → List (Nat × Value) → List Value → Prop} {mc ms : Nat} {Q : Hp → Prop} (C : Cx G l V cX2_init 2 RX2 7 191 mc ms (pV Q) none (none) [] true) : ∀ (k : Nat) (h : Hp) (c : Nat) (n : Nat) (x0 : Nat) (x1 : Int32), c ≤ mc → n ≤ ms → B_X2_init_66 mc ms Q k h c n x0 x1 → V h c n 66 [(0, .ref x0), (1, .int x1)] [] := by
  intro k
  induction k with
  | zero =>
    intro h c n x0 x1 b1 b2 hw
    exact hw.elim
  | succ k ih =>
    intro h c n x0 x1 b1 b2 hw
    exact s_X2_init_66 C _ (fun h c n x0 x1 b1 b2 hw => ih h c n x0 x1 b1 b2 hw) h c n x0 x1 b1 b2 hw
theorem sg_X2_init : ySg yX2_init 0 = true := by decide +kernel
theorem c_X2_init (G : gT) (l : Launch) (mc ms : Nat) (a0 : Nat) (h : Hp) (Q : Hp → Prop) (hw : w_X2_init mc ms a0 h Q) : Ct G l yX2_init (ws_ yX2_init cX2_init 2 (none)) 7 191 mc ms [.ref a0] h (pV Q) := by
  refine Ct.of (own := RX2) true (by decide +kernel) rfl (show (_ : Nat) ≤ _ from Nat.le_of_ble_eq_true rfl) (fun _ => rfl) (fun V C => ?_)
  show V h 0 0 0 [(0, .ref a0)] []
  unfold w_X2_init at hw
  refine r_aload_n C rfl 0 rfl dX2_init_0 ?_
  refine r_objInit C q135 q128 q129 (by decide) (by decide) dX2_init_1 ?_
  refine r_aload_n C rfl 0 rfl dX2_init_4 ?_
  obtain ⟨hp17, hp18, hw⟩ := hw
  refine r_new C kJ2 q136 q137 q81 df_8 dX2_init_5 hp17 hp18 hw (fun q19 h20 hw => ?_)
  refine r_dup C rfl dX2_init_8 ?_
  refine r_callI (rest := [.ref q19, .ref a0]) (As := []) C sg_J2_init rfl q138 q139 q81 q140 rfl (Nat.le_of_ble_eq_true rfl) dX2_init_9 rfl hp17 hp18 (cj_J2_init G l q19 h20 _ hw) (k_V (fun h22 hw => ?_))
  refine r_pf (k := 0) (v := .ref q19) C kX2 (by decide) (Or.inl q301) (Or.inl rfl) (Or.inr ⟨rfl, rfl, q301⟩) rfl rfl dX2_init_12 hw (fun h23 hw => ?_)
  refine r_aload_n C rfl 0 rfl dX2_init_15 ?_
  obtain ⟨hp24, hp25, hw⟩ := hw
  refine r_new C kJ2 q136 q137 q81 df_8 dX2_init_16 hp24 hp25 hw (fun q26 h27 hw => ?_)
  refine r_dup C rfl dX2_init_19 ?_
  refine r_callI (rest := [.ref q26, .ref a0]) (As := []) C sg_J2_init rfl q138 q139 q81 q140 rfl (Nat.le_of_ble_eq_true rfl) dX2_init_20 rfl hp24 hp25 (cj_J2_init G l q26 h27 _ hw) (k_V (fun h29 hw => ?_))
  refine r_pf (k := 1) (v := .ref q26) C kX2 (by decide) (Or.inl q303) (Or.inl rfl) (Or.inr ⟨rfl, rfl, q303⟩) rfl rfl dX2_init_23 hw (fun h30 hw => ?_)
  refine r_aload_n C rfl 0 rfl dX2_init_26 ?_
  obtain ⟨hp31, hp32, hw⟩ := hw
  refine r_new C kJ2 q136 q137 q81 df_8 dX2_init_27 hp31 hp32 hw (fun q33 h34 hw => ?_)
  refine r_dup C rfl dX2_init_30 ?_
  refine r_callI (rest := [.ref q33, .ref a0]) (As := []) C sg_J2_init rfl q138 q139 q81 q140 rfl (Nat.le_of_ble_eq_true rfl) dX2_init_31 rfl hp31 hp32 (cj_J2_init G l q33 h34 _ hw) (k_V (fun h36 hw => ?_))
  refine r_pf (k := 2) (v := .ref q33) C kX2 (by decide) (Or.inl q305) (Or.inl rfl) (Or.inr ⟨rfl, rfl, q305⟩) rfl rfl dX2_init_34 hw (fun h37 hw => ?_)
  refine r_aload_n C rfl 0 rfl dX2_init_37 ?_
  obtain ⟨hp38, hp39, hw⟩ := hw
  refine r_new C kJ2 q136 q137 q81 df_8 dX2_init_38 hp38 hp39 hw (fun q40 h41 hw => ?_)
  refine r_dup C rfl dX2_init_41 ?_
  refine r_callI (rest := [.ref q40, .ref a0]) (As := []) C sg_J2_init rfl q138 q139 q81 q140 rfl (Nat.le_of_ble_eq_true rfl) dX2_init_42 rfl hp38 hp39 (cj_J2_init G l q40 h41 _ hw) (k_V (fun h43 hw => ?_))
  refine r_pf (k := 3) (v := .ref q40) C kX2 (by decide) (Or.inl q308) (Or.inl rfl) (Or.inr ⟨rfl, rfl, q308⟩) rfl rfl dX2_init_45 hw (fun h44 hw => ?_)
  refine r_aload_n C rfl 0 rfl dX2_init_48 (r_iconst (v := (2 : Int32)) C (by decide) dX2_init_49 ?_)
  obtain ⟨hp45, hp46, hw⟩ := hw
  refine r_newa (atype := .int) (N := 2) (t := 0) C q190 (by decide) rfl (fun _ z => by cases z) (fun cA => rfl) (by decide) (by decide) (by decide) dX2_init_50 hp45 hp46 hw (fun q47 h48 hw => ?_)
  refine r_dup C rfl dX2_init_52 (r_iconst (v := (0 : Int32)) C (by decide) dX2_init_53 (r_bipush (v := (10 : Int32)) C (by decide) dX2_init_54 ?_))
  refine r_iastore C dX2_init_56 hw (fun h49 hw => ?_)
  refine r_dup C rfl dX2_init_57 (r_iconst (v := (1 : Int32)) C (by decide) dX2_init_58 (r_iconst (v := (3 : Int32)) C (by decide) dX2_init_59 ?_))
  refine r_iastore C dX2_init_60 hw (fun h50 hw => ?_)
  refine r_pf (k := 4) (v := .ref q47) C kX2 (by decide) (Or.inl q310) (Or.inl rfl) (Or.inl rfl) rfl rfl dX2_init_61 hw (fun h51 hw => ?_)
  refine r_iconst (v := (0 : Int32)) C (by decide) dX2_init_64 (r_istore_n (L' := [(1, .int (0 : Int32)), (0, .ref a0)]) C rfl (by decide) rfl dX2_init_65 ?_)
  obtain ⟨k9, hw⟩ := hw
  exact r_sub C [1, 0] rfl (b_X2_init_66 C _ _ _ _ _ _ hp45 hp46 hw)
def w_X2_canReign (a0 : Nat) (i1 : Int32) (h : Hp) (Q : Bool → Hp → Prop) : Prop :=
  gfR h a0 1 0 (fun v1 => nn v1 (fun y2 => hasC h y2 8 ∧ (wj_J2_size y2 h (fun r4 h5 => ((10 : Int32) ≤ r4 → Q false h5) ∧ (¬ (10 : Int32) ≤ r4 → gfR h5 a0 1 0 (fun v7 => nn v7 (fun y8 => hasC h5 y8 8 ∧ (wj_J2_isEmpty y8 h5 (fun r10 h11 => (r10 = true → Q true h11) ∧ (r10 = false → gfR h11 a0 1 0 (fun v13 => gfR h11 a0 1 0 (fun v14 => nn v14 (fun y15 => hasC h11 y15 8 ∧ (wj_J2_size y15 h11 (fun r17 h18 => nn v13 (fun y19 => hasC h18 y19 8 ∧ (wj_J2_get y19 (r17 - (1 : Int32)) h18 (fun r21 h22 => (∀ z23 : Nat, r21 = some z23 → hasC h22 z23 3) ∧ (nn r21 (fun y25 => gfI h22 y25 3 0 (fun v26 => Q (if i1 ≤ v26 then false else true) h22)))))))))))))))))))))
theorem sg_X2_canReign : ySg yX2_canReign 1 = true := by decide +kernel
theorem c_X2_canReign (G : gT) (l : Launch) (a0 : Nat) (i1 : Int32) (h : Hp) (Q : Bool → Hp → Prop) (hw : w_X2_canReign a0 i1 h Q) : Ct G l yX2_canReign (ws_ yX2_canReign cX2_canReign 2 (some .boolean)) 4 76 0 0 [.ref a0, .int i1] h (pZ Q) := by
  refine Ct.of (own := RX2) false (by decide +kernel) rfl (show (_ : Nat) ≤ _ from Nat.le_of_ble_eq_true rfl) (fun z => by cases z) (fun V C => ?_)
  show V h 0 0 0 [(0, .ref a0), (1, .int i1)] []
  unfold w_X2_canReign at hw
  refine r_aload_n C rfl 0 rfl dX2_canReign_0 ?_
  refine r_gfR (k := 0) C kX2 (by decide) (Or.inl q301) (Or.inl rfl) dX2_canReign_1 hw (fun v1 hw => ?_)
  obtain ⟨y2, rfl, hw_y2⟩ := hw
  have hw := hw_y2
  obtain ⟨hq3, hw⟩ := hw
  refine r_callF (ci := 8) (rest := []) (As := []) C (x := ⟨"java/util/List", "size", "()I"⟩) (show ySg ⟨"java/util/List", "size", "()I"⟩ 0 = true by decide +kernel) rfl q411 q414 q416 q81 q418 (List.mem_of_getElem? (i := 2) rfl) rfl (Nat.le_of_ble_eq_true rfl) dX2_canReign_4 rfl hq3 (Nat.le_refl _) (Nat.le_refl _) (cj_J2_size G l y2 h _ hw) (k_I (fun r4 h5 hw => ?_))
  refine r_bipush (v := (10 : Int32)) C (by decide) dX2_canReign_9 ?_
  refine r_icmp_ge (tgt := 60) C (by decide) dX2_canReign_11 (fun hc6 => ?_) (fun hc6 => ?_)
  · have hw := hw.1 hc6
    refine r_iconst (v := (0 : Int32)) C (by decide) dX2_canReign_60 ?_
    exact r_zreturn (x := false) C dX2_canReign_61 (Nat.le_refl _) (Nat.le_refl _) ⟨_, rfl, hw⟩
  · have hw := hw.2 hc6
    refine r_aload_n C rfl 0 rfl dX2_canReign_14 ?_
    refine r_gfR (k := 0) C kX2 (by decide) (Or.inl q301) (Or.inl rfl) dX2_canReign_15 hw (fun v7 hw => ?_)
    obtain ⟨y8, rfl, hw_y8⟩ := hw
    have hw := hw_y8
    obtain ⟨hq9, hw⟩ := hw
    refine r_callF (ci := 8) (rest := []) (As := []) C (x := ⟨"java/util/List", "isEmpty", "()Z"⟩) (show ySg ⟨"java/util/List", "isEmpty", "()Z"⟩ 0 = true by decide +kernel) rfl q425 q428 q430 q81 q432 (List.mem_of_getElem? (i := 4) rfl) rfl (Nat.le_of_ble_eq_true rfl) dX2_canReign_18 rfl hq9 (Nat.le_refl _) (Nat.le_refl _) (cj_J2_isEmpty G l y8 h5 _ hw) (k_Z (fun r10 h11 hw => ?_))
    refine r_if_ne_b (tgt := 56) C (by decide) dX2_canReign_23 (fun hc12 => ?_) (fun hc12 => ?_)
    · have hw := hw.1 hc12
      refine r_iconst (v := (1 : Int32)) C (by decide) dX2_canReign_56 (r_goto (tgt := 61) C (by decide) dX2_canReign_57 ?_)
      exact r_zreturn (x := true) C dX2_canReign_61 (Nat.le_refl _) (Nat.le_refl _) ⟨_, rfl, hw⟩
    · have hw := hw.2 hc12
      refine r_iload_n C rfl 1 rfl dX2_canReign_26 (r_aload_n C rfl 0 rfl dX2_canReign_27 ?_)
      refine r_gfR (k := 0) C kX2 (by decide) (Or.inl q301) (Or.inl rfl) dX2_canReign_28 hw (fun v13 hw => ?_)
      refine r_aload_n C rfl 0 rfl dX2_canReign_31 ?_
      refine r_gfR (k := 0) C kX2 (by decide) (Or.inl q301) (Or.inl rfl) dX2_canReign_32 hw (fun v14 hw => ?_)
      obtain ⟨y15, rfl, hw_y15⟩ := hw
      have hw := hw_y15
      obtain ⟨hq16, hw⟩ := hw
      refine r_callF (ci := 8) (rest := [va_rf v13, .int i1]) (As := []) C (x := ⟨"java/util/List", "size", "()I"⟩) (show ySg ⟨"java/util/List", "size", "()I"⟩ 0 = true by decide +kernel) rfl q411 q414 q416 q81 q418 (List.mem_of_getElem? (i := 2) rfl) rfl (by rcases v13 with _ | _ <;> exact Nat.le_of_ble_eq_true rfl) dX2_canReign_35 rfl hq16 (Nat.le_refl _) (Nat.le_refl _) (cj_J2_size G l y15 h11 _ hw) (k_I (fun r17 h18 hw => ?_))
      refine r_iconst (v := (1 : Int32)) C (by decide) dX2_canReign_40 (r_isub C dX2_canReign_41 ?_)
      obtain ⟨y19, rfl, hw_y19⟩ := hw
      have hw := hw_y19
      obtain ⟨hq20, hw⟩ := hw
      refine r_callF (ci := 8) (rest := [.int i1]) (As := [.int (r17 - (1 : Int32))]) C (x := ⟨"java/util/List", "get", "(I)Ljava/lang/Object;"⟩) (show ySg ⟨"java/util/List", "get", "(I)Ljava/lang/Object;"⟩ 1 = true by decide +kernel) rfl q450 q453 q455 q81 q457 (List.mem_of_getElem? (i := 6) rfl) rfl (Nat.le_of_ble_eq_true rfl) dX2_canReign_42 rfl hq20 (Nat.le_refl _) (Nat.le_refl _) (cj_J2_get G l y19 (r17 - (1 : Int32)) h18 _ hw) (k_R (fun r21 h22 hw => ?_))
      obtain ⟨e24, hw⟩ := hw
      refine r_cast (x := r21) C (ci := 3) rfl q803 dX2_canReign_47 e24 ?_
      obtain ⟨y25, rfl, hw_y25⟩ := hw
      have hw := hw_y25
      refine r_gfI (k := 0) C kX4 (by decide) (Or.inr ⟨_, (List.mem_of_getElem? (i := 12) rfl)⟩) (Or.inl rfl) dX2_canReign_50 hw (fun v26 hw => ?_)
      have hJ : V h22 0 0 61 [] [.int (bI (if i1 ≤ v26 then false else true))] := by
        exact r_zreturn (x := (if i1 ≤ v26 then false else true)) C dX2_canReign_61 (Nat.le_refl _) (Nat.le_refl _) ⟨_, rfl, hw⟩
      refine r_icmp_le (tgt := 60) C (by decide) dX2_canReign_53 (fun hc27 => ?_) (fun hc27 => ?_)
      · have hJ28 := hJ
        try simp only [if_pos hc27] at hJ28
        refine r_iconst (v := (0 : Int32)) C (by decide) dX2_canReign_60 ?_
        exact r_sub C [] rfl hJ28
      · have hJ28 := hJ
        try simp only [if_neg hc27] at hJ28
        refine r_iconst (v := (1 : Int32)) C (by decide) dX2_canReign_56 (r_goto (tgt := 61) C (by decide) dX2_canReign_57 ?_)
        exact r_sub C [] rfl hJ28
def w_X4_init (a0 : Nat) (i1 : Int32) (i2 : Int32) (h : Hp) (Q : Hp → Prop) : Prop :=
  pf h a0 3 0 (.int i1) (fun h1 => pf h1 a0 3 1 (.int i2) (fun h2 => Q h2))
theorem sg_X4_init : ySg yX4_init 2 = true := by decide +kernel
theorem c_X4_init (G : gT) (l : Launch) (a0 : Nat) (i1 : Int32) (i2 : Int32) (h : Hp) (Q : Hp → Prop) (hw : w_X4_init a0 i1 i2 h Q) : Ct G l yX4_init (ws_ yX4_init cX4_init 3 (none)) 1 12 0 0 [.ref a0, .int i1, .int i2] h (pV Q) := by
  refine Ct.of (own := RX4) true (by decide +kernel) rfl (show (_ : Nat) ≤ _ from Nat.le_of_ble_eq_true rfl) (fun _ => rfl) (fun V C => ?_)
  show V h 0 0 0 [(0, .ref a0), (1, .int i1), (2, .int i2)] []
  unfold w_X4_init at hw
  refine r_aload_n C rfl 0 rfl dX4_init_0 ?_
  refine r_objInit C q812 q128 q129 (by decide) (by decide) dX4_init_1 ?_
  refine r_aload_n C rfl 0 rfl dX4_init_4 (r_iload_n C rfl 1 rfl dX4_init_5 ?_)
  refine r_pf (k := 0) (v := .int i1) C kX4 (by decide) (Or.inl q813) (Or.inl rfl) (Or.inr ⟨rfl, rfl, q813⟩) rfl rfl dX4_init_6 hw (fun h1 hw => ?_)
  refine r_aload_n C rfl 0 rfl dX4_init_9 (r_iload_n C rfl 2 rfl dX4_init_10 ?_)
  refine r_pf (k := 1) (v := .int i2) C kX4 (by decide) (Or.inl q816) (Or.inl rfl) (Or.inr ⟨rfl, rfl, q816⟩) rfl rfl dX4_init_11 hw (fun h2 hw => ?_)
  exact r_return C dX4_init_14 (Nat.le_refl _) (Nat.le_refl _) ⟨rfl, hw⟩
def w_X2_reign (mc ms : Nat) (a0 : Nat) (i1 : Int32) (i2 : Int32) (h : Hp) (Q : Int32 → Hp → Prop) : Prop :=
  gfR h a0 1 0 (fun v1 => 0 + 1 ≤ mc ∧ 0 + 2 ≤ ms ∧ (nwO h 3 [.int 0, .int 0] (fun q4 h5 => w_X4_init q4 i1 i2 h5 (fun h7 => nn v1 (fun y8 => hasC h7 y8 8 ∧ (∃ k12 k13 : Nat, (0 + 1) + k12 ≤ mc ∧ (0 + 2) + k13 ≤ ms ∧ (wj_J2_add k12 k13 y8 q4 h7 (fun r10 h11 => pf h11 a0 1 5 (va_rf none) (fun h16 => gfR h16 a0 1 0 (fun v17 => nn v17 (fun y18 => hasC h16 y18 8 ∧ (wj_J2_size y18 h16 (fun r20 h21 => Q (r20 - (1 : Int32)) h21)))))))))))))
theorem sg_X2_reign : ySg yX2_reign 2 = true := by decide +kernel
theorem c_X2_reign (G : gT) (l : Launch) (mc ms : Nat) (a0 : Nat) (i1 : Int32) (i2 : Int32) (h : Hp) (Q : Int32 → Hp → Prop) (hw : w_X2_reign mc ms a0 i1 i2 h Q) : Ct G l yX2_reign (ws_ yX2_reign cX2_reign 3 (some .int)) 7 191 mc ms [.ref a0, .int i1, .int i2] h (pI Q) := by
  refine Ct.of (own := RX2) false (by decide +kernel) rfl (show (_ : Nat) ≤ _ from Nat.le_of_ble_eq_true rfl) (fun z => by cases z) (fun V C => ?_)
  show V h 0 0 0 [(0, .ref a0), (1, .int i1), (2, .int i2)] []
  unfold w_X2_reign at hw
  refine r_aload_n C rfl 0 rfl dX2_reign_0 ?_
  refine r_gfR (k := 0) C kX2 (by decide) (Or.inl q301) (Or.inl rfl) dX2_reign_1 hw (fun v1 hw => ?_)
  obtain ⟨hp2, hp3, hw⟩ := hw
  refine r_new C kX4 q803 q808 q106 df_3 dX2_reign_4 hp2 hp3 hw (fun q4 h5 hw => ?_)
  refine r_dup C rfl dX2_reign_7 (r_iload_n C rfl 1 rfl dX2_reign_8 (r_iload_n C rfl 2 rfl dX2_reign_9 ?_))
  refine r_callI (rest := [.ref q4, va_rf v1]) (As := [.int i1, .int i2]) C sg_X4_init rfl q809 q810 q106 q811 rfl (by rcases v1 with _ | _ <;> exact Nat.le_of_ble_eq_true rfl) dX2_reign_10 rfl hp2 hp3 (c_X4_init G l q4 i1 i2 h5 _ hw) (k_V (fun h7 hw => ?_))
  obtain ⟨y8, rfl, hw_y8⟩ := hw
  have hw := hw_y8
  obtain ⟨hq9, hw⟩ := hw
  obtain ⟨k12, k13, hp14, hp15, hw⟩ := hw
  refine r_callF (ci := 8) (rest := []) (As := [.ref q4]) C (x := ⟨"java/util/List", "add", "(Ljava/lang/Object;)Z"⟩) (show ySg ⟨"java/util/List", "add", "(Ljava/lang/Object;)Z"⟩ 1 = true by decide +kernel) rfl q192 q196 q198 q81 q200 (List.mem_of_getElem? (i := 0) rfl) rfl (Nat.le_of_ble_eq_true rfl) dX2_reign_13 rfl hq9 hp14 hp15 (cj_J2_add G l k12 k13 y8 q4 h7 _ hw) (k_Z (fun r10 h11 hw => ?_))
  refine r_pop C rfl dX2_reign_18 (r_aload_n C rfl 0 rfl dX2_reign_19 (r_null C dX2_reign_20 ?_))
  refine r_pf (k := 5) (v := va_rf none) C kX2 (by decide) (Or.inl q312) (Or.inl rfl) (Or.inl rfl) (n_rfA _ _) (f_rfA _ _) dX2_reign_21 hw (fun h16 hw => ?_)
  refine r_aload_n C rfl 0 rfl dX2_reign_24 ?_
  refine r_gfR (k := 0) C kX2 (by decide) (Or.inl q301) (Or.inl rfl) dX2_reign_25 hw (fun v17 hw => ?_)
  obtain ⟨y18, rfl, hw_y18⟩ := hw
  have hw := hw_y18
  obtain ⟨hq19, hw⟩ := hw
  refine r_callF (ci := 8) (rest := []) (As := []) C (x := ⟨"java/util/List", "size", "()I"⟩) (show ySg ⟨"java/util/List", "size", "()I"⟩ 0 = true by decide +kernel) rfl q411 q414 q416 q81 q418 (List.mem_of_getElem? (i := 2) rfl) rfl (Nat.le_of_ble_eq_true rfl) dX2_reign_28 rfl hq19 hp14 hp15 (cj_J2_size G l y18 h16 _ hw) (k_I (fun r20 h21 hw => ?_))
  refine r_iconst (v := (1 : Int32)) C (by decide) dX2_reign_33 (r_isub C dX2_reign_34 ?_)
  exact r_ireturn C dX2_reign_35 hp14 hp15 ⟨_, rfl, hw⟩
def w_X5_init (mc ms : Nat) (a0 : Nat) (i1 : Int32) (i2 : Int32) (i3 : Int32) (h : Hp) (Q : Hp → Prop) : Prop :=
  0 + 1 ≤ mc ∧ 0 + 3 ≤ ms ∧ (nwO h 8 [.int 0, .null, .int 0] (fun q3 h4 => wj_J2_init q3 h4 (fun h6 => pf h6 a0 4 3 (.ref q3) (fun h7 => pf h7 a0 4 0 (.int i1) (fun h8 => pf h8 a0 4 1 (.int i2) (fun h9 => pf h9 a0 4 2 (.int i3) (fun h10 => Q h10)))))))
theorem sg_X5_init : ySg yX5_init 3 = true := by decide +kernel
theorem c_X5_init (G : gT) (l : Launch) (mc ms : Nat) (a0 : Nat) (i1 : Int32) (i2 : Int32) (i3 : Int32) (h : Hp) (Q : Hp → Prop) (hw : w_X5_init mc ms a0 i1 i2 i3 h Q) : Ct G l yX5_init (ws_ yX5_init cX5_init 4 (none)) 4 72 mc ms [.ref a0, .int i1, .int i2, .int i3] h (pV Q) := by
  refine Ct.of (own := RX5) true (by decide +kernel) rfl (show (_ : Nat) ≤ _ from Nat.le_of_ble_eq_true rfl) (fun _ => rfl) (fun V C => ?_)
  show V h 0 0 0 [(0, .ref a0), (1, .int i1), (2, .int i2), (3, .int i3)] []
  unfold w_X5_init at hw
  refine r_aload_n C rfl 0 rfl dX5_init_0 ?_
  refine r_objInit C q852 q128 q129 (by decide) (by decide) dX5_init_1 ?_
  refine r_aload_n C rfl 0 rfl dX5_init_4 ?_
  obtain ⟨hp1, hp2, hw⟩ := hw
  refine r_new C kJ2 q853 q137 q81 df_8 dX5_init_5 hp1 hp2 hw (fun q3 h4 hw => ?_)
  refine r_dup C rfl dX5_init_8 ?_
  refine r_callI (rest := [.ref q3, .ref a0]) (As := []) C sg_J2_init rfl q854 q139 q81 q140 rfl (Nat.le_of_ble_eq_true rfl) dX5_init_9 rfl hp1 hp2 (cj_J2_init G l q3 h4 _ hw) (k_V (fun h6 hw => ?_))
  refine r_pf (k := 3) (v := .ref q3) C kX5 (by decide) (Or.inl q864) (Or.inl rfl) (Or.inr ⟨rfl, rfl, q864⟩) rfl rfl dX5_init_12 hw (fun h7 hw => ?_)
  refine r_aload_n C rfl 0 rfl dX5_init_15 (r_iload_n C rfl 1 rfl dX5_init_16 ?_)
  refine r_pf (k := 0) (v := .int i1) C kX5 (by decide) (Or.inl q855) (Or.inl rfl) (Or.inr ⟨rfl, rfl, q855⟩) rfl rfl dX5_init_17 hw (fun h8 hw => ?_)
  refine r_aload_n C rfl 0 rfl dX5_init_20 (r_iload_n C rfl 2 rfl dX5_init_21 ?_)
  refine r_pf (k := 1) (v := .int i2) C kX5 (by decide) (Or.inl q858) (Or.inl rfl) (Or.inr ⟨rfl, rfl, q858⟩) rfl rfl dX5_init_22 hw (fun h9 hw => ?_)
  refine r_aload_n C rfl 0 rfl dX5_init_25 (r_iload_n C rfl 3 rfl dX5_init_26 ?_)
  refine r_pf (k := 2) (v := .int i3) C kX5 (by decide) (Or.inl q861) (Or.inl rfl) (Or.inr ⟨rfl, rfl, q861⟩) rfl rfl dX5_init_27 hw (fun h10 hw => ?_)
  exact r_return C dX5_init_30 hp1 hp2 ⟨rfl, hw⟩
def w_X2_die (mc ms : Nat) (a0 : Nat) (i1 : Int32) (i2 : Int32) (i3 : Int32) (h : Hp) (Q : Int32 → Hp → Prop) : Prop :=
  gfR h a0 1 1 (fun v1 => 0 + 1 ≤ mc ∧ 0 + 4 ≤ ms ∧ (nwO h 4 [.int 0, .int 0, .int 0, .null] (fun q4 h5 => ∃ k8 k9 : Nat, (0 + 1) + k8 ≤ mc ∧ (0 + 4) + k9 ≤ ms ∧ (w_X5_init k8 k9 q4 i1 i2 i3 h5 (fun h7 => nn v1 (fun y12 => hasC h7 y12 8 ∧ (∃ k16 k17 : Nat, ((0 + 1) + k8) + k16 ≤ mc ∧ ((0 + 4) + k9) + k17 ≤ ms ∧ (wj_J2_add k16 k17 y12 q4 h7 (fun r14 h15 => gfR h15 a0 1 1 (fun v20 => nn v20 (fun y21 => hasC h15 y21 8 ∧ (wj_J2_size y21 h15 (fun r23 h24 => Q (r23 - (1 : Int32)) h24)))))))))))))
theorem sg_X2_die : ySg yX2_die 3 = true := by decide +kernel
theorem c_X2_die (G : gT) (l : Launch) (mc ms : Nat) (a0 : Nat) (i1 : Int32) (i2 : Int32) (i3 : Int32) (h : Hp) (Q : Int32 → Hp → Prop) (hw : w_X2_die mc ms a0 i1 i2 i3 h Q) : Ct G l yX2_die (ws_ yX2_die cX2_die 4 (some .int)) 7 191 mc ms [.ref a0, .int i1, .int i2, .int i3] h (pI Q) := by
  refine Ct.of (own := RX2) false (by decide +kernel) rfl (show (_ : Nat) ≤ _ from Nat.le_of_ble_eq_true rfl) (fun z => by cases z) (fun V C => ?_)
  show V h 0 0 0 [(0, .ref a0), (1, .int i1), (2, .int i2), (3, .int i3)] []
  unfold w_X2_die at hw
  refine r_aload_n C rfl 0 rfl dX2_die_0 ?_
  refine r_gfR (k := 1) C kX2 (by decide) (Or.inl q303) (Or.inl rfl) dX2_die_1 hw (fun v1 hw => ?_)
  obtain ⟨hp2, hp3, hw⟩ := hw
  refine r_new C kX5 q847 q848 q107 df_4 dX2_die_4 hp2 hp3 hw (fun q4 h5 hw => ?_)
  refine r_dup C rfl dX2_die_7 (r_iload_n C rfl 1 rfl dX2_die_8 (r_iload_n C rfl 2 rfl dX2_die_9 (r_iload_n C rfl 3 rfl dX2_die_10 ?_)))
  obtain ⟨k8, k9, hp10, hp11, hw⟩ := hw
  refine r_callI (rest := [.ref q4, va_rf v1]) (As := [.int i1, .int i2, .int i3]) C sg_X5_init rfl q849 q850 q107 q851 rfl (by rcases v1 with _ | _ <;> exact Nat.le_of_ble_eq_true rfl) dX2_die_11 rfl hp10 hp11 (c_X5_init G l k8 k9 q4 i1 i2 i3 h5 _ hw) (k_V (fun h7 hw => ?_))
  obtain ⟨y12, rfl, hw_y12⟩ := hw
  have hw := hw_y12
  obtain ⟨hq13, hw⟩ := hw
  obtain ⟨k16, k17, hp18, hp19, hw⟩ := hw
  refine r_callF (ci := 8) (rest := []) (As := [.ref q4]) C (x := ⟨"java/util/List", "add", "(Ljava/lang/Object;)Z"⟩) (show ySg ⟨"java/util/List", "add", "(Ljava/lang/Object;)Z"⟩ 1 = true by decide +kernel) rfl q192 q196 q198 q81 q200 (List.mem_of_getElem? (i := 0) rfl) rfl (Nat.le_of_ble_eq_true rfl) dX2_die_14 rfl hq13 hp18 hp19 (cj_J2_add G l k16 k17 y12 q4 h7 _ hw) (k_Z (fun r14 h15 hw => ?_))
  refine r_pop C rfl dX2_die_19 (r_aload_n C rfl 0 rfl dX2_die_20 ?_)
  refine r_gfR (k := 1) C kX2 (by decide) (Or.inl q303) (Or.inl rfl) dX2_die_21 hw (fun v20 hw => ?_)
  obtain ⟨y21, rfl, hw_y21⟩ := hw
  have hw := hw_y21
  obtain ⟨hq22, hw⟩ := hw
  refine r_callF (ci := 8) (rest := []) (As := []) C (x := ⟨"java/util/List", "size", "()I"⟩) (show ySg ⟨"java/util/List", "size", "()I"⟩ 0 = true by decide +kernel) rfl q411 q414 q416 q81 q418 (List.mem_of_getElem? (i := 2) rfl) rfl (Nat.le_of_ble_eq_true rfl) dX2_die_24 rfl hq22 hp18 hp19 (cj_J2_size G l y21 h15 _ hw) (k_I (fun r23 h24 hw => ?_))
  refine r_iconst (v := (1 : Int32)) C (by decide) dX2_die_29 (r_isub C dX2_die_30 ?_)
  exact r_ireturn C dX2_die_31 hp18 hp19 ⟨_, rfl, hw⟩
def w_X2_hasDie (a0 : Nat) (i1 : Int32) (h : Hp) (Q : Bool → Hp → Prop) : Prop :=
  gfR h a0 1 1 (fun v1 => nn v1 (fun y2 => hasC h y2 8 ∧ (wj_J2_size y2 h (fun r4 h5 => w_X1_isIn i1.toInt64 (0 : Int64) ((r4 - (1 : Int32)).toInt64) h5 (fun r6 h7 => Q r6 h7)))))
theorem sg_X2_hasDie : ySg yX2_hasDie 1 = true := by decide +kernel
theorem c_X2_hasDie (G : gT) (l : Launch) (a0 : Nat) (i1 : Int32) (h : Hp) (Q : Bool → Hp → Prop) (hw : w_X2_hasDie a0 i1 h Q) : Ct G l yX2_hasDie (ws_ yX2_hasDie cX2_hasDie 2 (some .boolean)) 2 37 0 0 [.ref a0, .int i1] h (pZ Q) := by
  refine Ct.of (own := RX2) false (by decide +kernel) rfl (show (_ : Nat) ≤ _ from Nat.le_of_ble_eq_true rfl) (fun z => by cases z) (fun V C => ?_)
  show V h 0 0 0 [(0, .ref a0), (1, .int i1)] []
  unfold w_X2_hasDie at hw
  refine r_iload_n C rfl 1 rfl dX2_hasDie_0 (r_i2l C dX2_hasDie_1 (r_lconst (v := (0 : Int64)) C (by decide) dX2_hasDie_2 (r_aload_n C rfl 0 rfl dX2_hasDie_3 ?_)))
  refine r_gfR (k := 1) C kX2 (by decide) (Or.inl q303) (Or.inl rfl) dX2_hasDie_4 hw (fun v1 hw => ?_)
  obtain ⟨y2, rfl, hw_y2⟩ := hw
  have hw := hw_y2
  obtain ⟨hq3, hw⟩ := hw
  refine r_callF (ci := 8) (rest := [.long (0 : Int64), .long i1.toInt64]) (As := []) C (x := ⟨"java/util/List", "size", "()I"⟩) (show ySg ⟨"java/util/List", "size", "()I"⟩ 0 = true by decide +kernel) rfl q411 q414 q416 q81 q418 (List.mem_of_getElem? (i := 2) rfl) rfl (Nat.le_of_ble_eq_true rfl) dX2_hasDie_7 rfl hq3 (Nat.le_refl _) (Nat.le_refl _) (cj_J2_size G l y2 h _ hw) (k_I (fun r4 h5 hw => ?_))
  refine r_iconst (v := (1 : Int32)) C (by decide) dX2_hasDie_12 (r_isub C dX2_hasDie_13 (r_i2l C dX2_hasDie_14 ?_))
  refine r_callSN (rest := []) (As := [.long i1.toInt64, .long (0 : Int64), .long ((r4 - (1 : Int32)).toInt64)]) C sg_X1_isIn (List.mem_of_getElem? (i := 25) rfl) q400 q77 q401 rfl (Nat.le_of_ble_eq_true rfl) dX2_hasDie_15 rfl (Nat.le_refl _) (Nat.le_refl _) (c_X1_isIn G l i1.toInt64 (0 : Int64) ((r4 - (1 : Int32)).toInt64) h5 _ hw) (k_Z (fun r6 h7 hw => ?_))
  exact r_zreturn (x := r6) C dX2_hasDie_18 (Nat.le_refl _) (Nat.le_refl _) ⟨_, rfl, hw⟩
def w_X2_crack (mc ms : Nat) (a0 : Nat) (i1 : Int32) (i2 : Int32) (h : Hp) (Q : Int32 → Hp → Prop) : Prop :=
  gfR h a0 1 1 (fun v1 => nn v1 (fun y2 => hasC h y2 8 ∧ (wj_J2_get y2 i1 h (fun r4 h5 => (∀ z6 : Nat, r4 = some z6 → hasC h5 z6 4) ∧ (nn r4 (fun y8 => gfR h5 y8 4 3 (fun v9 => ∃ k12 k13 : Nat, 0 + k12 ≤ mc ∧ 0 + k13 ≤ ms ∧ (wj_J24_valueOf k12 k13 i2 h5 (fun r10 h11 => nn v9 (fun y16 => nn r10 (fun y17 => hasC h11 y16 8 ∧ (∃ k21 k22 : Nat, (0 + k12) + k21 ≤ mc ∧ (0 + k13) + k22 ≤ ms ∧ (wj_J2_add k21 k22 y16 y17 h11 (fun r19 h20 => pf h20 a0 1 5 (va_rf none) (fun h25 => gfR h25 a0 1 1 (fun v26 => nn v26 (fun y27 => hasC h25 y27 8 ∧ (wj_J2_get y27 i1 h25 (fun r29 h30 => (∀ z31 : Nat, r29 = some z31 → hasC h30 z31 4) ∧ (nn r29 (fun y33 => gfR h30 y33 4 3 (fun v34 => nn v34 (fun y35 => hasC h30 y35 8 ∧ (wj_J2_size y35 h30 (fun r37 h38 => Q (r37 - (1 : Int32)) h38)))))))))))))))))))))))))
theorem sg_X2_crack : ySg yX2_crack 2 = true := by decide +kernel
theorem c_X2_crack (G : gT) (l : Launch) (mc ms : Nat) (a0 : Nat) (i1 : Int32) (i2 : Int32) (h : Hp) (Q : Int32 → Hp → Prop) (hw : w_X2_crack mc ms a0 i1 i2 h Q) : Ct G l yX2_crack (ws_ yX2_crack cX2_crack 3 (some .int)) 7 191 mc ms [.ref a0, .int i1, .int i2] h (pI Q) := by
  refine Ct.of (own := RX2) false (by decide +kernel) rfl (show (_ : Nat) ≤ _ from Nat.le_of_ble_eq_true rfl) (fun z => by cases z) (fun V C => ?_)
  show V h 0 0 0 [(0, .ref a0), (1, .int i1), (2, .int i2)] []
  unfold w_X2_crack at hw
  refine r_aload_n C rfl 0 rfl dX2_crack_0 ?_
  refine r_gfR (k := 1) C kX2 (by decide) (Or.inl q303) (Or.inl rfl) dX2_crack_1 hw (fun v1 hw => ?_)
  refine r_iload_n C rfl 1 rfl dX2_crack_4 ?_
  obtain ⟨y2, rfl, hw_y2⟩ := hw
  have hw := hw_y2
  obtain ⟨hq3, hw⟩ := hw
  refine r_callF (ci := 8) (rest := []) (As := [.int i1]) C (x := ⟨"java/util/List", "get", "(I)Ljava/lang/Object;"⟩) (show ySg ⟨"java/util/List", "get", "(I)Ljava/lang/Object;"⟩ 1 = true by decide +kernel) rfl q450 q453 q455 q81 q457 (List.mem_of_getElem? (i := 6) rfl) rfl (Nat.le_of_ble_eq_true rfl) dX2_crack_5 rfl hq3 (Nat.zero_le _) (Nat.zero_le _) (cj_J2_get G l y2 i1 h _ hw) (k_R (fun r4 h5 hw => ?_))
  obtain ⟨e7, hw⟩ := hw
  refine r_cast (x := r4) C (ci := 4) rfl q847 dX2_crack_10 e7 ?_
  obtain ⟨y8, rfl, hw_y8⟩ := hw
  have hw := hw_y8
  refine r_gfR (k := 3) C kX5 (by decide) (Or.inr ⟨_, (List.mem_of_getElem? (i := 23) rfl)⟩) (Or.inl rfl) dX2_crack_13 hw (fun v9 hw => ?_)
  refine r_iload_n C rfl 2 rfl dX2_crack_16 ?_
  obtain ⟨k12, k13, hp14, hp15, hw⟩ := hw
  refine r_callS (rest := [va_rf v9]) (As := [.int i2]) C sg_J24_valueOf q978 q896 q105 q897 rfl (by rcases v9 with _ | _ <;> exact Nat.le_of_ble_eq_true rfl) dX2_crack_17 rfl hp14 hp15 (cj_J24_valueOf G l k12 k13 i2 h5 _ hw) (k_R (fun r10 h11 hw => ?_))
  obtain ⟨y16, rfl, hw_y16⟩ := hw
  have hw := hw_y16
  obtain ⟨y17, rfl, hw_y17⟩ := hw
  have hw := hw_y17
  obtain ⟨hq18, hw⟩ := hw
  obtain ⟨k21, k22, hp23, hp24, hw⟩ := hw
  refine r_callF (ci := 8) (rest := []) (As := [.ref y17]) C (x := ⟨"java/util/List", "add", "(Ljava/lang/Object;)Z"⟩) (show ySg ⟨"java/util/List", "add", "(Ljava/lang/Object;)Z"⟩ 1 = true by decide +kernel) rfl q192 q196 q198 q81 q200 (List.mem_of_getElem? (i := 0) rfl) rfl (Nat.le_of_ble_eq_true rfl) dX2_crack_20 rfl hq18 hp23 hp24 (cj_J2_add G l k21 k22 y16 y17 h11 _ hw) (k_Z (fun r19 h20 hw => ?_))
  refine r_pop C rfl dX2_crack_25 (r_aload_n C rfl 0 rfl dX2_crack_26 (r_null C dX2_crack_27 ?_))
  refine r_pf (k := 5) (v := va_rf none) C kX2 (by decide) (Or.inl q312) (Or.inl rfl) (Or.inl rfl) (n_rfA _ _) (f_rfA _ _) dX2_crack_28 hw (fun h25 hw => ?_)
  refine r_aload_n C rfl 0 rfl dX2_crack_31 ?_
  refine r_gfR (k := 1) C kX2 (by decide) (Or.inl q303) (Or.inl rfl) dX2_crack_32 hw (fun v26 hw => ?_)
  refine r_iload_n C rfl 1 rfl dX2_crack_35 ?_
  obtain ⟨y27, rfl, hw_y27⟩ := hw
  have hw := hw_y27
  obtain ⟨hq28, hw⟩ := hw
  refine r_callF (ci := 8) (rest := []) (As := [.int i1]) C (x := ⟨"java/util/List", "get", "(I)Ljava/lang/Object;"⟩) (show ySg ⟨"java/util/List", "get", "(I)Ljava/lang/Object;"⟩ 1 = true by decide +kernel) rfl q450 q453 q455 q81 q457 (List.mem_of_getElem? (i := 6) rfl) rfl (Nat.le_of_ble_eq_true rfl) dX2_crack_36 rfl hq28 hp23 hp24 (cj_J2_get G l y27 i1 h25 _ hw) (k_R (fun r29 h30 hw => ?_))
  obtain ⟨e32, hw⟩ := hw
  refine r_cast (x := r29) C (ci := 4) rfl q847 dX2_crack_41 e32 ?_
  obtain ⟨y33, rfl, hw_y33⟩ := hw
  have hw := hw_y33
  refine r_gfR (k := 3) C kX5 (by decide) (Or.inr ⟨_, (List.mem_of_getElem? (i := 23) rfl)⟩) (Or.inl rfl) dX2_crack_44 hw (fun v34 hw => ?_)
  obtain ⟨y35, rfl, hw_y35⟩ := hw
  have hw := hw_y35
  obtain ⟨hq36, hw⟩ := hw
  refine r_callF (ci := 8) (rest := []) (As := []) C (x := ⟨"java/util/List", "size", "()I"⟩) (show ySg ⟨"java/util/List", "size", "()I"⟩ 0 = true by decide +kernel) rfl q411 q414 q416 q81 q418 (List.mem_of_getElem? (i := 2) rfl) rfl (Nat.le_of_ble_eq_true rfl) dX2_crack_47 rfl hq36 hp23 hp24 (cj_J2_size G l y35 h30 _ hw) (k_I (fun r37 h38 hw => ?_))
  refine r_iconst (v := (1 : Int32)) C (by decide) dX2_crack_52 (r_isub C dX2_crack_53 ?_)
  exact r_ireturn C dX2_crack_54 hp23 hp24 ⟨_, rfl, hw⟩
def w_X6_init (a0 : Nat) (i1 : Int32) (i2 : Int32) (i3 : Int32) (i4 : Int32) (i5 : Int32) (h : Hp) (Q : Hp → Prop) : Prop :=
  pf h a0 5 5 (.int (-1 : Int32)) (fun h1 => pf h1 a0 5 0 (.int i1) (fun h2 => pf h2 a0 5 1 (.int i2) (fun h3 => pf h3 a0 5 2 (.int i3) (fun h4 => pf h4 a0 5 3 (.int i4) (fun h5 => pf h5 a0 5 4 (.int i5) (fun h6 => Q h6))))))
theorem sg_X6_init : ySg yX6_init 5 = true := by decide +kernel
theorem c_X6_init (G : gT) (l : Launch) (a0 : Nat) (i1 : Int32) (i2 : Int32) (i3 : Int32) (i4 : Int32) (i5 : Int32) (h : Hp) (Q : Hp → Prop) (hw : w_X6_init a0 i1 i2 i3 i4 i5 h Q) : Ct G l yX6_init (ws_ yX6_init cX6_init 6 (none)) 1 12 0 0 [.ref a0, .int i1, .int i2, .int i3, .int i4, .int i5] h (pV Q) := by
  refine Ct.of (own := RX6) true (by decide +kernel) rfl (show (_ : Nat) ≤ _ from Nat.le_of_ble_eq_true rfl) (fun _ => rfl) (fun V C => ?_)
  show V h 0 0 0 [(0, .ref a0), (1, .int i1), (2, .int i2), (3, .int i3), (4, .int i4), (5, .int i5)] []
  unfold w_X6_init at hw
  refine r_aload_n C rfl 0 rfl dX6_init_0 ?_
  refine r_objInit C q997 q128 q129 (by decide) (by decide) dX6_init_1 ?_
  refine r_aload_n C rfl 0 rfl dX6_init_4 (r_iconst (v := (-1 : Int32)) C (by decide) dX6_init_5 ?_)
  refine r_pf (k := 5) (v := .int (-1 : Int32)) C kX6 (by decide) (Or.inl q1015) (Or.inl rfl) (Or.inl rfl) rfl rfl dX6_init_6 hw (fun h1 hw => ?_)
  refine r_aload_n C rfl 0 rfl dX6_init_9 (r_iload_n C rfl 1 rfl dX6_init_10 ?_)
  refine r_pf (k := 0) (v := .int i1) C kX6 (by decide) (Or.inl q998) (Or.inl rfl) (Or.inr ⟨rfl, rfl, q998⟩) rfl rfl dX6_init_11 hw (fun h2 hw => ?_)
  refine r_aload_n C rfl 0 rfl dX6_init_14 (r_iload_n C rfl 2 rfl dX6_init_15 ?_)
  refine r_pf (k := 1) (v := .int i2) C kX6 (by decide) (Or.inl q1001) (Or.inl rfl) (Or.inr ⟨rfl, rfl, q1001⟩) rfl rfl dX6_init_16 hw (fun h3 hw => ?_)
  refine r_aload_n C rfl 0 rfl dX6_init_19 (r_iload_n C rfl 3 rfl dX6_init_20 ?_)
  refine r_pf (k := 2) (v := .int i3) C kX6 (by decide) (Or.inl q1004) (Or.inl rfl) (Or.inr ⟨rfl, rfl, q1004⟩) rfl rfl dX6_init_21 hw (fun h4 hw => ?_)
  refine r_aload_n C rfl 0 rfl dX6_init_24 (r_iload C 4 rfl dX6_init_25 ?_)
  refine r_pf (k := 3) (v := .int i4) C kX6 (by decide) (Or.inl q1008) (Or.inl rfl) (Or.inr ⟨rfl, rfl, q1008⟩) rfl rfl dX6_init_27 hw (fun h5 hw => ?_)
  refine r_aload_n C rfl 0 rfl dX6_init_30 (r_iload C 5 rfl dX6_init_31 ?_)
  refine r_pf (k := 4) (v := .int i5) C kX6 (by decide) (Or.inl q1011) (Or.inl rfl) (Or.inl rfl) rfl rfl dX6_init_33 hw (fun h6 hw => ?_)
  exact r_return C dX6_init_36 (Nat.le_refl _) (Nat.le_refl _) ⟨rfl, hw⟩
def w_X2_seal (mc ms : Nat) (a0 : Nat) (i1 : Int32) (i2 : Int32) (i3 : Int32) (i4 : Int32) (i5 : Int32) (h : Hp) (Q : Int32 → Hp → Prop) : Prop :=
  gfR h a0 1 2 (fun v1 => 0 + 1 ≤ mc ∧ 0 + 6 ≤ ms ∧ (nwO h 5 [.int 0, .int 0, .int 0, .int 0, .int 0, .int 0] (fun q4 h5 => w_X6_init q4 i1 i2 i3 i4 i5 h5 (fun h7 => nn v1 (fun y8 => hasC h7 y8 8 ∧ (∃ k12 k13 : Nat, (0 + 1) + k12 ≤ mc ∧ (0 + 6) + k13 ≤ ms ∧ (wj_J2_add k12 k13 y8 q4 h7 (fun r10 h11 => gfR h11 a0 1 2 (fun v16 => nn v16 (fun y17 => hasC h11 y17 8 ∧ (wj_J2_size y17 h11 (fun r19 h20 => Q (r19 - (1 : Int32)) h20))))))))))))
theorem sg_X2_seal : ySg yX2_seal 5 = true := by decide +kernel
theorem c_X2_seal (G : gT) (l : Launch) (mc ms : Nat) (a0 : Nat) (i1 : Int32) (i2 : Int32) (i3 : Int32) (i4 : Int32) (i5 : Int32) (h : Hp) (Q : Int32 → Hp → Prop) (hw : w_X2_seal mc ms a0 i1 i2 i3 i4 i5 h Q) : Ct G l yX2_seal (ws_ yX2_seal cX2_seal 6 (some .int)) 7 191 mc ms [.ref a0, .int i1, .int i2, .int i3, .int i4, .int i5] h (pI Q) := by
  refine Ct.of (own := RX2) false (by decide +kernel) rfl (show (_ : Nat) ≤ _ from Nat.le_of_ble_eq_true rfl) (fun z => by cases z) (fun V C => ?_)
  show V h 0 0 0 [(0, .ref a0), (1, .int i1), (2, .int i2), (3, .int i3), (4, .int i4), (5, .int i5)] []
  unfold w_X2_seal at hw
  refine r_aload_n C rfl 0 rfl dX2_seal_0 ?_
  refine r_gfR (k := 2) C kX2 (by decide) (Or.inl q305) (Or.inl rfl) dX2_seal_1 hw (fun v1 hw => ?_)
  obtain ⟨hp2, hp3, hw⟩ := hw
  refine r_new C kX6 q992 q993 q109 df_5 dX2_seal_4 hp2 hp3 hw (fun q4 h5 hw => ?_)
  refine r_dup C rfl dX2_seal_7 (r_iload_n C rfl 1 rfl dX2_seal_8 (r_iload_n C rfl 2 rfl dX2_seal_9 (r_iload_n C rfl 3 rfl dX2_seal_10 (r_iload C 4 rfl dX2_seal_11 (r_iload C 5 rfl dX2_seal_13 ?_)))))
  refine r_callI (rest := [.ref q4, va_rf v1]) (As := [.int i1, .int i2, .int i3, .int i4, .int i5]) C sg_X6_init rfl q994 q995 q109 q996 rfl (by rcases v1 with _ | _ <;> exact Nat.le_of_ble_eq_true rfl) dX2_seal_15 rfl hp2 hp3 (c_X6_init G l q4 i1 i2 i3 i4 i5 h5 _ hw) (k_V (fun h7 hw => ?_))
  obtain ⟨y8, rfl, hw_y8⟩ := hw
  have hw := hw_y8
  obtain ⟨hq9, hw⟩ := hw
  obtain ⟨k12, k13, hp14, hp15, hw⟩ := hw
  refine r_callF (ci := 8) (rest := []) (As := [.ref q4]) C (x := ⟨"java/util/List", "add", "(Ljava/lang/Object;)Z"⟩) (show ySg ⟨"java/util/List", "add", "(Ljava/lang/Object;)Z"⟩ 1 = true by decide +kernel) rfl q192 q196 q198 q81 q200 (List.mem_of_getElem? (i := 0) rfl) rfl (Nat.le_of_ble_eq_true rfl) dX2_seal_18 rfl hq9 hp14 hp15 (cj_J2_add G l k12 k13 y8 q4 h7 _ hw) (k_Z (fun r10 h11 hw => ?_))
  refine r_pop C rfl dX2_seal_23 (r_aload_n C rfl 0 rfl dX2_seal_24 ?_)
  refine r_gfR (k := 2) C kX2 (by decide) (Or.inl q305) (Or.inl rfl) dX2_seal_25 hw (fun v16 hw => ?_)
  obtain ⟨y17, rfl, hw_y17⟩ := hw
  have hw := hw_y17
  obtain ⟨hq18, hw⟩ := hw
  refine r_callF (ci := 8) (rest := []) (As := []) C (x := ⟨"java/util/List", "size", "()I"⟩) (show ySg ⟨"java/util/List", "size", "()I"⟩ 0 = true by decide +kernel) rfl q411 q414 q416 q81 q418 (List.mem_of_getElem? (i := 2) rfl) rfl (Nat.le_of_ble_eq_true rfl) dX2_seal_28 rfl hq18 hp14 hp15 (cj_J2_size G l y17 h11 _ hw) (k_I (fun r19 h20 hw => ?_))
  refine r_iconst (v := (1 : Int32)) C (by decide) dX2_seal_33 (r_isub C dX2_seal_34 ?_)
  exact r_ireturn C dX2_seal_35 hp14 hp15 ⟨_, rfl, hw⟩
def w_X2_hasSeal (a0 : Nat) (i1 : Int32) (h : Hp) (Q : Bool → Hp → Prop) : Prop :=
  gfR h a0 1 2 (fun v1 => nn v1 (fun y2 => hasC h y2 8 ∧ (wj_J2_size y2 h (fun r4 h5 => w_X1_isIn i1.toInt64 (0 : Int64) ((r4 - (1 : Int32)).toInt64) h5 (fun r6 h7 => Q r6 h7)))))
theorem sg_X2_hasSeal : ySg yX2_hasSeal 1 = true := by decide +kernel
theorem c_X2_hasSeal (G : gT) (l : Launch) (a0 : Nat) (i1 : Int32) (h : Hp) (Q : Bool → Hp → Prop) (hw : w_X2_hasSeal a0 i1 h Q) : Ct G l yX2_hasSeal (ws_ yX2_hasSeal cX2_hasSeal 2 (some .boolean)) 2 37 0 0 [.ref a0, .int i1] h (pZ Q) := by
  refine Ct.of (own := RX2) false (by decide +kernel) rfl (show (_ : Nat) ≤ _ from Nat.le_of_ble_eq_true rfl) (fun z => by cases z) (fun V C => ?_)
  show V h 0 0 0 [(0, .ref a0), (1, .int i1)] []
  unfold w_X2_hasSeal at hw
  refine r_iload_n C rfl 1 rfl dX2_hasSeal_0 (r_i2l C dX2_hasSeal_1 (r_lconst (v := (0 : Int64)) C (by decide) dX2_hasSeal_2 (r_aload_n C rfl 0 rfl dX2_hasSeal_3 ?_)))
  refine r_gfR (k := 2) C kX2 (by decide) (Or.inl q305) (Or.inl rfl) dX2_hasSeal_4 hw (fun v1 hw => ?_)
  obtain ⟨y2, rfl, hw_y2⟩ := hw
  have hw := hw_y2
  obtain ⟨hq3, hw⟩ := hw
  refine r_callF (ci := 8) (rest := [.long (0 : Int64), .long i1.toInt64]) (As := []) C (x := ⟨"java/util/List", "size", "()I"⟩) (show ySg ⟨"java/util/List", "size", "()I"⟩ 0 = true by decide +kernel) rfl q411 q414 q416 q81 q418 (List.mem_of_getElem? (i := 2) rfl) rfl (Nat.le_of_ble_eq_true rfl) dX2_hasSeal_7 rfl hq3 (Nat.le_refl _) (Nat.le_refl _) (cj_J2_size G l y2 h _ hw) (k_I (fun r4 h5 hw => ?_))
  refine r_iconst (v := (1 : Int32)) C (by decide) dX2_hasSeal_12 (r_isub C dX2_hasSeal_13 (r_i2l C dX2_hasSeal_14 ?_))
  refine r_callSN (rest := []) (As := [.long i1.toInt64, .long (0 : Int64), .long ((r4 - (1 : Int32)).toInt64)]) C sg_X1_isIn (List.mem_of_getElem? (i := 25) rfl) q400 q77 q401 rfl (Nat.le_of_ble_eq_true rfl) dX2_hasSeal_15 rfl (Nat.le_refl _) (Nat.le_refl _) (c_X1_isIn G l i1.toInt64 (0 : Int64) ((r4 - (1 : Int32)).toInt64) h5 _ hw) (k_Z (fun r6 h7 hw => ?_))
  exact r_zreturn (x := r6) C dX2_hasSeal_18 (Nat.le_refl _) (Nat.le_refl _) ⟨_, rfl, hw⟩
def B_X2_on_69 (mc ms : Nat) (Q : Int32 → Hp → Prop) (LA12 : Hp → Nat → Nat → Int32 → Int32 → (Option Nat) → Prop) (h : Hp) (c : Nat) (n : Nat) (x1 : Int32) (x3 : Option Nat) (s0 : Int32) (s1 : Bool) : Prop :=
  LA12 h c n x1 (s0 + (bI s1)) x3
def S_X2_on_12 (mc ms : Nat) (Q : Int32 → Hp → Prop) (LA12 : Hp → Nat → Nat → Int32 → Int32 → (Option Nat) → Prop) (h : Hp) (c : Nat) (n : Nat) (x1 : Int32) (x2 : Int32) (x3 : Option Nat) : Prop :=
  nn x3 (fun y1 => hasC h y1 13 ∧ (wj_J25_hasNext y1 h (fun r3 h4 => (r3 = false → Q x2 h4) ∧ (r3 = true → hasC h4 y1 13 ∧ (wj_J25_next y1 h4 (fun r7 h8 => (∀ z9 : Nat, r7 = some z9 → hasC h8 z9 5) ∧ ((¬ x1 = (-1 : Int32) → nn r7 (fun y12 => gfI h8 y12 5 5 (fun v13 => B_X2_on_69 mc ms Q LA12 h8 c n x1 (some y1) x2 (if ¬ v13 = x1 then false else true)))) ∧ (x1 = (-1 : Int32) → nn r7 (fun y16 => gfI h8 y16 5 5 (fun v17 => B_X2_on_69 mc ms Q LA12 h8 c n x1 (some y1) x2 (if ¬ v17 = (-1 : Int32) then true else false)))))))))))
def B_X2_on_12 (mc ms : Nat) (Q : Int32 → Hp → Prop) : Nat → Hp → Nat → Nat → Int32 → Int32 → (Option Nat) → Prop
  | 0, _, _, _, _, _, _ => False
  | k + 1, h, c, n, x1, x2, x3 => S_X2_on_12 mc ms Q (B_X2_on_12 mc ms Q k) h c n x1 x2 x3
def w_X2_on (mc ms : Nat) (a0 : Nat) (i1 : Int32) (h : Hp) (Q : Int32 → Hp → Prop) : Prop :=
  gfR h a0 1 2 (fun v20 => nn v20 (fun y21 => hasC h y21 8 ∧ (∃ k25 k26 : Nat, 0 + k25 ≤ mc ∧ 0 + k26 ≤ ms ∧ (wj_J2_iterator k25 k26 y21 h (fun r23 h24 => ∃ k9 : Nat, B_X2_on_12 mc ms Q k9 h24 (0 + k25) (0 + k26) i1 (0 : Int32) r23)))))
theorem b_X2_on_69 {G : gT} {l : Launch} {V : Hp → Nat → Nat → Nat → List (Nat × Value) → List Value → Prop} {mc ms : Nat} {Q : Int32 → Hp → Prop} (C : Cx G l V cX2_on 5 RX2 3 57 mc ms (pI Q) none (some .int) [] false) (LA12 : Hp → Nat → Nat → Int32 → Int32 → (Option Nat) → Prop) (hLA12 : ∀ (h : Hp) (c : Nat) (n : Nat) (x1 : Int32) (x2 : Int32) (x3 : Option Nat), c ≤ mc → n ≤ ms → LA12 h c n x1 x2 x3 → V h c n 12 [(1, .int x1), (2, .int x2), (3, va_rf x3)] []) (h : Hp) (c : Nat) (n : Nat) (x1 : Int32) (x3 : Option Nat) (s0 : Int32) (s1 : Bool) (b1 : c ≤ mc) (b2 : n ≤ ms) (hw : B_X2_on_69 mc ms Q LA12 h c n x1 x3 s0 s1) : V h c n 69 [(1, .int x1), (3, va_rf x3)] [.int (bI s1), .int s0] := by
  unfold B_X2_on_69 at hw
  refine r_iadd C dX2_on_69 (r_istore_n (L' := [(2, .int (s0 + (bI s1))), (1, .int x1), (3, va_rf x3)]) C rfl (by decide) rfl dX2_on_70 (r_goto (tgt := 12) C (by decide) dX2_on_71 ?_))
  exact r_sub C [1, 0, 2] rfl (hLA12 _ _ _ _ _ _ b1 b2 hw)
theorem s_X2_on_12 {G : gT} {l : Launch} {V : Hp → Nat → Nat → Nat → List (Nat × Value) → List Value → Prop} {mc ms : Nat} {Q : Int32 → Hp → Prop} (C : Cx G l V cX2_on 5 RX2 3 57 mc ms (pI Q) none (some .int) [] false) (LA12 : Hp → Nat → Nat → Int32 → Int32 → (Option Nat) → Prop) (hLA12 : ∀ (h : Hp) (c : Nat) (n : Nat) (x1 : Int32) (x2 : Int32) (x3 : Option Nat), c ≤ mc → n ≤ ms → LA12 h c n x1 x2 x3 → V h c n 12 [(1, .int x1), (2, .int x2), (3, va_rf x3)] []) (h : Hp) (c : Nat) (n : Nat) (x1 : Int32) (x2 : Int32) (x3 : Option Nat) (b1 : c ≤ mc) (b2 : n ≤ ms) (hw : S_X2_on_12 mc ms Q LA12 h c n x1 x2 x3) : V h c n 12 [(1, .int x1), (2, .int x2), (3, va_rf x3)] [] := by
  unfold S_X2_on_12 at hw
  refine r_aload_nO C rfl 2 rfl dX2_on_12 ?_
  obtain ⟨y1, rfl, hw_y1⟩ := hw
  have hw := hw_y1
  obtain ⟨hq2, hw⟩ := hw
  refine r_callF (ci := 13) (rest := []) (As := []) C (x := ⟨"java/util/Iterator", "hasNext", "()Z"⟩) (show ySg ⟨"java/util/Iterator", "hasNext", "()Z"⟩ 0 = true by decide +kernel) rfl q1161 q1183 q1185 q110 q1187 (List.mem_of_getElem? (i := 14) rfl) rfl (Nat.le_of_ble_eq_true rfl) dX2_on_13 rfl hq2 b1 b2 (cj_J25_hasNext G l y1 h _ hw) (k_Z (fun r3 h4 hw => ?_))
  refine r_if_eq_b (tgt := 74) C (by decide) dX2_on_18 (fun hc5 => ?_) (fun hc5 => ?_)
  · have hw := hw.1 hc5
    refine r_iload_n C rfl 1 rfl dX2_on_74 ?_
    exact r_ireturn C dX2_on_75 b1 b2 ⟨_, rfl, hw⟩
  · have hw := hw.2 hc5
    refine r_aload_n C rfl 2 rfl dX2_on_21 ?_
    obtain ⟨hq6, hw⟩ := hw
    refine r_callF (ci := 13) (rest := []) (As := []) C (x := ⟨"java/util/Iterator", "next", "()Ljava/lang/Object;"⟩) (show ySg ⟨"java/util/Iterator", "next", "()Ljava/lang/Object;"⟩ 0 = true by decide +kernel) rfl q1198 q1298 q1300 q110 q1302 (List.mem_of_getElem? (i := 19) rfl) rfl (Nat.le_of_ble_eq_true rfl) dX2_on_22 rfl hq6 b1 b2 (cj_J25_next G l y1 h4 _ hw) (k_R (fun r7 h8 hw => ?_))
    obtain ⟨e10, hw⟩ := hw
    refine r_cast (x := r7) C (ci := 5) rfl q992 dX2_on_27 e10 ?_
    refine r_astoreO (x := r7) (L' := [(4, va_rf r7), (1, .int x1), (2, .int x2), (3, .ref y1)]) C (by decide) rfl dX2_on_30 (r_iload_n C rfl 2 rfl dX2_on_32 (r_iload_n C rfl 1 rfl dX2_on_33 (r_iconst (v := (-1 : Int32)) C (by decide) dX2_on_34 ?_)))
    refine r_icmp_ne (tgt := 55) C (by decide) dX2_on_35 (fun hc11 => ?_) (fun hc11 => ?_)
    · have hw := hw.1 hc11
      refine r_aloadO C 0 rfl dX2_on_55 ?_
      obtain ⟨y12, rfl, hw_y12⟩ := hw
      have hw := hw_y12
      refine r_gfI (k := 5) C kX6 (by decide) (Or.inr ⟨_, (List.mem_of_getElem? (i := 39) rfl)⟩) (Or.inl rfl) dX2_on_57 hw (fun v13 hw => ?_)
      refine r_iload_n C rfl 1 rfl dX2_on_60 ?_
      have hJ : V h8 c n 69 [(1, .int x1), (3, .ref y1)] [.int (bI (if ¬ v13 = x1 then false else true)), .int x2] := by
        exact r_sub C [0, 1] rfl (b_X2_on_69 C LA12 hLA12 _ _ _ _ _ _ _ b1 b2 hw)
      refine r_icmp_ne (tgt := 68) C (by decide) dX2_on_61 (fun hc14 => ?_) (fun hc14 => ?_)
      · have hJ15 := hJ
        try simp only [if_pos hc14] at hJ15
        refine r_iconst (v := (0 : Int32)) C (by decide) dX2_on_68 ?_
        exact r_sub C [1, 3] rfl hJ15
      · have hJ15 := hJ
        try simp only [if_neg (show ¬ ¬ v13 = x1 from fun z => z hc14)] at hJ15
        refine r_iconst (v := (1 : Int32)) C (by decide) dX2_on_64 (r_goto (tgt := 69) C (by decide) dX2_on_65 ?_)
        exact r_sub C [1, 3] rfl hJ15
    · have hw := hw.2 hc11
      refine r_aloadO C 0 rfl dX2_on_38 ?_
      obtain ⟨y16, rfl, hw_y16⟩ := hw
      have hw := hw_y16
      refine r_gfI (k := 5) C kX6 (by decide) (Or.inr ⟨_, (List.mem_of_getElem? (i := 39) rfl)⟩) (Or.inl rfl) dX2_on_40 hw (fun v17 hw => ?_)
      refine r_iconst (v := (-1 : Int32)) C (by decide) dX2_on_43 ?_
      have hJ : V h8 c n 69 [(1, .int x1), (3, .ref y1)] [.int (bI (if ¬ v17 = (-1 : Int32) then true else false)), .int x2] := by
        exact r_sub C [0, 1] rfl (b_X2_on_69 C LA12 hLA12 _ _ _ _ _ _ _ b1 b2 hw)
      refine r_icmp_ne (tgt := 51) C (by decide) dX2_on_44 (fun hc18 => ?_) (fun hc18 => ?_)
      · have hJ19 := hJ
        try simp only [if_pos hc18] at hJ19
        refine r_iconst (v := (1 : Int32)) C (by decide) dX2_on_51 (r_goto (tgt := 69) C (by decide) dX2_on_52 ?_)
        exact r_sub C [1, 3] rfl hJ19
      · have hJ19 := hJ
        try simp only [if_neg (show ¬ ¬ v17 = (-1 : Int32) from fun z => z hc18)] at hJ19
        refine r_iconst (v := (0 : Int32)) C (by decide) dX2_on_47 (r_goto (tgt := 69) C (by decide) dX2_on_48 ?_)
        exact r_sub C [1, 3] rfl hJ19
theorem b_X2_on_12 {G : gT} {l : Launch} {V : Hp → Nat → Nat → Nat → List (Nat × Value) → List Value → Prop} {mc ms : Nat} {Q : Int32 → Hp → Prop} (C : Cx G l V cX2_on 5 RX2 3 57 mc ms (pI Q) none (some .int) [] false) : ∀ (k : Nat) (h : Hp) (c : Nat) (n : Nat) (x1 : Int32) (x2 : Int32) (x3 : Option Nat), c ≤ mc → n ≤ ms → B_X2_on_12 mc ms Q k h c n x1 x2 x3 → V h c n 12 [(1, .int x1), (2, .int x2), (3, va_rf x3)] [] := by
  intro k
  induction k with
  | zero =>
    intro h c n x1 x2 x3 b1 b2 hw
    exact hw.elim
  | succ k ih =>
    intro h c n x1 x2 x3 b1 b2 hw
    exact s_X2_on_12 C _ (fun h c n x1 x2 x3 b1 b2 hw => ih h c n x1 x2 x3 b1 b2 hw) h c n x1 x2 x3 b1 b2 hw
theorem sg_X2_on : ySg yX2_on 1 = true := by decide +kernel
theorem c_X2_on (G : gT) (l : Launch) (mc ms : Nat) (a0 : Nat) (i1 : Int32) (h : Hp) (Q : Int32 → Hp → Prop) (hw : w_X2_on mc ms a0 i1 h Q) : Ct G l yX2_on (ws_ yX2_on cX2_on 5 (some .int)) 3 57 mc ms [.ref a0, .int i1] h (pI Q) := by
  refine Ct.of (own := RX2) false (by decide +kernel) rfl (show (_ : Nat) ≤ _ from Nat.le_of_ble_eq_true rfl) (fun z => by cases z) (fun V C => ?_)
  show V h 0 0 0 [(0, .ref a0), (1, .int i1)] []
  unfold w_X2_on at hw
  refine r_iconst (v := (0 : Int32)) C (by decide) dX2_on_0 (r_istore_n (L' := [(2, .int (0 : Int32)), (0, .ref a0), (1, .int i1)]) C rfl (by decide) rfl dX2_on_1 (r_aload_n C rfl 1 rfl dX2_on_2 ?_))
  refine r_gfR (k := 2) C kX2 (by decide) (Or.inl q305) (Or.inl rfl) dX2_on_3 hw (fun v20 hw => ?_)
  obtain ⟨y21, rfl, hw_y21⟩ := hw
  have hw := hw_y21
  obtain ⟨hq22, hw⟩ := hw
  obtain ⟨k25, k26, hp27, hp28, hw⟩ := hw
  refine r_callF (ci := 8) (rest := []) (As := []) C (x := ⟨"java/util/List", "iterator", "()Ljava/util/Iterator;"⟩) (show ySg ⟨"java/util/List", "iterator", "()Ljava/util/Iterator;"⟩ 0 = true by decide +kernel) rfl q1048 q1051 q1053 q81 q1055 (List.mem_of_getElem? (i := 10) rfl) rfl (Nat.le_of_ble_eq_true rfl) dX2_on_6 rfl hq22 hp27 hp28 (cj_J2_iterator G l k25 k26 y21 h _ hw) (k_R (fun r23 h24 hw => ?_))
  refine r_astore_nO (x := r23) (L' := [(3, va_rf r23), (2, .int (0 : Int32)), (0, .ref a0), (1, .int i1)]) C rfl (by decide) rfl dX2_on_11 ?_
  obtain ⟨k9, hw⟩ := hw
  exact r_sub C [3, 1, 0] rfl (b_X2_on_12 C _ _ _ _ _ _ _ hp27 hp28 hw)
def w_X2_hang (mc ms : Nat) (a0 : Nat) (i1 : Int32) (i2 : Int32) (h : Hp) (Q : Int32 → Hp → Prop) : Prop :=
  gfR h a0 1 2 (fun v1 => nn v1 (fun y2 => hasC h y2 8 ∧ (wj_J2_get y2 i1 h (fun r4 h5 => (∀ z6 : Nat, r4 = some z6 → hasC h5 z6 5) ∧ (nn r4 (fun y8 => pf h5 y8 5 5 (.int i2) (fun h9 => hasC h9 a0 1 ∧ (∃ k13 k14 : Nat, 0 + k13 ≤ mc ∧ 0 + k14 ≤ ms ∧ (w_X2_on k13 k14 a0 i2 h9 (fun r11 h12 => Q r11 h12))))))))))
theorem sg_X2_hang : ySg yX2_hang 2 = true := by decide +kernel
theorem c_X2_hang (G : gT) (l : Launch) (mc ms : Nat) (a0 : Nat) (i1 : Int32) (i2 : Int32) (h : Hp) (Q : Int32 → Hp → Prop) (hw : w_X2_hang mc ms a0 i1 i2 h Q) : Ct G l yX2_hang (ws_ yX2_hang cX2_hang 3 (some .int)) 4 81 mc ms [.ref a0, .int i1, .int i2] h (pI Q) := by
  refine Ct.of (own := RX2) false (by decide +kernel) rfl (show (_ : Nat) ≤ _ from Nat.le_of_ble_eq_true rfl) (fun z => by cases z) (fun V C => ?_)
  show V h 0 0 0 [(0, .ref a0), (1, .int i1), (2, .int i2)] []
  unfold w_X2_hang at hw
  refine r_aload_n C rfl 0 rfl dX2_hang_0 ?_
  refine r_gfR (k := 2) C kX2 (by decide) (Or.inl q305) (Or.inl rfl) dX2_hang_1 hw (fun v1 hw => ?_)
  refine r_iload_n C rfl 1 rfl dX2_hang_4 ?_
  obtain ⟨y2, rfl, hw_y2⟩ := hw
  have hw := hw_y2
  obtain ⟨hq3, hw⟩ := hw
  refine r_callF (ci := 8) (rest := []) (As := [.int i1]) C (x := ⟨"java/util/List", "get", "(I)Ljava/lang/Object;"⟩) (show ySg ⟨"java/util/List", "get", "(I)Ljava/lang/Object;"⟩ 1 = true by decide +kernel) rfl q450 q453 q455 q81 q457 (List.mem_of_getElem? (i := 6) rfl) rfl (Nat.le_of_ble_eq_true rfl) dX2_hang_5 rfl hq3 (Nat.zero_le _) (Nat.zero_le _) (cj_J2_get G l y2 i1 h _ hw) (k_R (fun r4 h5 hw => ?_))
  obtain ⟨e7, hw⟩ := hw
  refine r_cast (x := r4) C (ci := 5) rfl q992 dX2_hang_10 e7 ?_
  refine r_iload_n C rfl 2 rfl dX2_hang_13 ?_
  obtain ⟨y8, rfl, hw_y8⟩ := hw
  have hw := hw_y8
  refine r_pf (k := 5) (v := .int i2) C kX6 (by decide) (Or.inr ⟨_, (List.mem_of_getElem? (i := 39) rfl)⟩) (Or.inl rfl) (Or.inl rfl) rfl rfl dX2_hang_14 hw (fun h9 hw => ?_)
  refine r_aload_n C rfl 0 rfl dX2_hang_17 (r_iload_n C rfl 2 rfl dX2_hang_18 ?_)
  obtain ⟨hq10, hw⟩ := hw
  obtain ⟨k13, k14, hp15, hp16, hw⟩ := hw
  refine r_callV (ci := 1) (rest := []) (As := [.int i2]) C sg_X2_on rfl rfl q1043 q1044 q1045 q78 q1046 rfl (Nat.le_of_ble_eq_true rfl) dX2_hang_19 rfl hq10 hp15 hp16 (c_X2_on G l k13 k14 a0 i2 h9 _ hw) (k_I (fun r11 h12 hw => ?_))
  exact r_ireturn C dX2_hang_22 hp15 hp16 ⟨_, rfl, hw⟩
def S_X2_isUsed_10 (mc ms : Nat) (Q : Bool → Hp → Prop) (LA10 : Hp → Nat → Nat → Int32 → (Option Nat) → Prop) (h : Hp) (c : Nat) (n : Nat) (x1 : Int32) (x2 : Option Nat) : Prop :=
  nn x2 (fun y1 => hasC h y1 13 ∧ (wj_J25_hasNext y1 h (fun r3 h4 => (r3 = false → Q false h4) ∧ (r3 = true → hasC h4 y1 13 ∧ (wj_J25_next y1 h4 (fun r7 h8 => (∀ z9 : Nat, r7 = some z9 → hasC h8 z9 3) ∧ (nn r7 (fun y11 => gfI h8 y11 3 1 (fun v12 => (¬ ((v12 >>> (x1 &&& 31)) &&& (1 : Int32)) = (1 : Int32) → LA10 h8 c n x1 (some y1)) ∧ (((v12 >>> (x1 &&& 31)) &&& (1 : Int32)) = (1 : Int32) → Q true h8))))))))))
def B_X2_isUsed_10 (mc ms : Nat) (Q : Bool → Hp → Prop) : Nat → Hp → Nat → Nat → Int32 → (Option Nat) → Prop
  | 0, _, _, _, _, _ => False
  | k + 1, h, c, n, x1, x2 => S_X2_isUsed_10 mc ms Q (B_X2_isUsed_10 mc ms Q k) h c n x1 x2
def w_X2_isUsed (mc ms : Nat) (a0 : Nat) (i1 : Int32) (h : Hp) (Q : Bool → Hp → Prop) : Prop :=
  gfR h a0 1 0 (fun v14 => nn v14 (fun y15 => hasC h y15 8 ∧ (∃ k19 k20 : Nat, 0 + k19 ≤ mc ∧ 0 + k20 ≤ ms ∧ (wj_J2_iterator k19 k20 y15 h (fun r17 h18 => ∃ k9 : Nat, B_X2_isUsed_10 mc ms Q k9 h18 (0 + k19) (0 + k20) i1 r17)))))
theorem s_X2_isUsed_10 {G : gT} {l : Launch} {V : Hp → Nat → Nat → Nat → List (Nat × Value) → List Value → Prop} {mc ms : Nat} {Q : Bool → Hp → Prop} (C : Cx G l V cX2_isUsed 4 RX2 3 57 mc ms (pZ Q) none (some .boolean) [] false) (LA10 : Hp → Nat → Nat → Int32 → (Option Nat) → Prop) (hLA10 : ∀ (h : Hp) (c : Nat) (n : Nat) (x1 : Int32) (x2 : Option Nat), c ≤ mc → n ≤ ms → LA10 h c n x1 x2 → V h c n 10 [(1, .int x1), (2, va_rf x2)] []) (h : Hp) (c : Nat) (n : Nat) (x1 : Int32) (x2 : Option Nat) (b1 : c ≤ mc) (b2 : n ≤ ms) (hw : S_X2_isUsed_10 mc ms Q LA10 h c n x1 x2) : V h c n 10 [(1, .int x1), (2, va_rf x2)] [] := by
  unfold S_X2_isUsed_10 at hw
  refine r_aload_nO C rfl 1 rfl dX2_isUsed_10 ?_
  obtain ⟨y1, rfl, hw_y1⟩ := hw
  have hw := hw_y1
  obtain ⟨hq2, hw⟩ := hw
  refine r_callF (ci := 13) (rest := []) (As := []) C (x := ⟨"java/util/Iterator", "hasNext", "()Z"⟩) (show ySg ⟨"java/util/Iterator", "hasNext", "()Z"⟩ 0 = true by decide +kernel) rfl q1161 q1183 q1185 q110 q1187 (List.mem_of_getElem? (i := 14) rfl) rfl (Nat.le_of_ble_eq_true rfl) dX2_isUsed_11 rfl hq2 b1 b2 (cj_J25_hasNext G l y1 h _ hw) (k_Z (fun r3 h4 hw => ?_))
  refine r_if_eq_b (tgt := 46) C (by decide) dX2_isUsed_16 (fun hc5 => ?_) (fun hc5 => ?_)
  · have hw := hw.1 hc5
    refine r_iconst (v := (0 : Int32)) C (by decide) dX2_isUsed_46 ?_
    exact r_zreturn (x := false) C dX2_isUsed_47 b1 b2 ⟨_, rfl, hw⟩
  · have hw := hw.2 hc5
    refine r_aload_n C rfl 1 rfl dX2_isUsed_19 ?_
    obtain ⟨hq6, hw⟩ := hw
    refine r_callF (ci := 13) (rest := []) (As := []) C (x := ⟨"java/util/Iterator", "next", "()Ljava/lang/Object;"⟩) (show ySg ⟨"java/util/Iterator", "next", "()Ljava/lang/Object;"⟩ 0 = true by decide +kernel) rfl q1198 q1298 q1300 q110 q1302 (List.mem_of_getElem? (i := 19) rfl) rfl (Nat.le_of_ble_eq_true rfl) dX2_isUsed_20 rfl hq6 b1 b2 (cj_J25_next G l y1 h4 _ hw) (k_R (fun r7 h8 hw => ?_))
    obtain ⟨e10, hw⟩ := hw
    refine r_cast (x := r7) C (ci := 3) rfl q803 dX2_isUsed_25 e10 ?_
    refine r_astore_nO (x := r7) (L' := [(3, va_rf r7), (1, .int x1), (2, .ref y1)]) C rfl (by decide) rfl dX2_isUsed_28 (r_aload_nO C rfl 0 rfl dX2_isUsed_29 ?_)
    obtain ⟨y11, rfl, hw_y11⟩ := hw
    have hw := hw_y11
    refine r_gfI (k := 1) C kX4 (by decide) (Or.inr ⟨_, (List.mem_of_getElem? (i := 14) rfl)⟩) (Or.inl rfl) dX2_isUsed_30 hw (fun v12 hw => ?_)
    refine r_iload_n C rfl 1 rfl dX2_isUsed_33 (r_ishr C dX2_isUsed_34 (r_iconst (v := (1 : Int32)) C (by decide) dX2_isUsed_35 (r_iand C dX2_isUsed_36 (r_iconst (v := (1 : Int32)) C (by decide) dX2_isUsed_37 ?_))))
    refine r_icmp_ne (tgt := 43) C (by decide) dX2_isUsed_38 (fun hc13 => ?_) (fun hc13 => ?_)
    · have hw := hw.1 hc13
      refine r_goto (tgt := 10) C (by decide) dX2_isUsed_43 ?_
      exact r_sub C [1, 2] rfl (hLA10 _ _ _ _ _ b1 b2 hw)
    · have hw := hw.2 hc13
      refine r_iconst (v := (1 : Int32)) C (by decide) dX2_isUsed_41 ?_
      exact r_zreturn (x := true) C dX2_isUsed_42 b1 b2 ⟨_, rfl, hw⟩
theorem b_X2_isUsed_10 {G : gT} {l : Launch} {V : Hp → Nat → Nat → Nat → List (Nat × Value) → List Value → Prop} {mc ms : Nat} {Q : Bool → Hp → Prop} (C : Cx G l V cX2_isUsed 4 RX2 3 57 mc ms (pZ Q) none (some .boolean) [] false) : ∀ (k : Nat) (h : Hp) (c : Nat) (n : Nat) (x1 : Int32) (x2 : Option Nat), c ≤ mc → n ≤ ms → B_X2_isUsed_10 mc ms Q k h c n x1 x2 → V h c n 10 [(1, .int x1), (2, va_rf x2)] [] := by
  intro k
  induction k with
  | zero =>
    intro h c n x1 x2 b1 b2 hw
    exact hw.elim
  | succ k ih =>
    intro h c n x1 x2 b1 b2 hw
    exact s_X2_isUsed_10 C _ (fun h c n x1 x2 b1 b2 hw => ih h c n x1 x2 b1 b2 hw) h c n x1 x2 b1 b2 hw
theorem sg_X2_isUsed : ySg yX2_isUsed 1 = true := by decide +kernel
theorem c_X2_isUsed (G : gT) (l : Launch) (mc ms : Nat) (a0 : Nat) (i1 : Int32) (h : Hp) (Q : Bool → Hp → Prop) (hw : w_X2_isUsed mc ms a0 i1 h Q) : Ct G l yX2_isUsed (ws_ yX2_isUsed cX2_isUsed 4 (some .boolean)) 3 57 mc ms [.ref a0, .int i1] h (pZ Q) := by
  refine Ct.of (own := RX2) false (by decide +kernel) rfl (show (_ : Nat) ≤ _ from Nat.le_of_ble_eq_true rfl) (fun z => by cases z) (fun V C => ?_)
  show V h 0 0 0 [(0, .ref a0), (1, .int i1)] []
  unfold w_X2_isUsed at hw
  refine r_aload_n C rfl 0 rfl dX2_isUsed_0 ?_
  refine r_gfR (k := 0) C kX2 (by decide) (Or.inl q301) (Or.inl rfl) dX2_isUsed_1 hw (fun v14 hw => ?_)
  obtain ⟨y15, rfl, hw_y15⟩ := hw
  have hw := hw_y15
  obtain ⟨hq16, hw⟩ := hw
  obtain ⟨k19, k20, hp21, hp22, hw⟩ := hw
  refine r_callF (ci := 8) (rest := []) (As := []) C (x := ⟨"java/util/List", "iterator", "()Ljava/util/Iterator;"⟩) (show ySg ⟨"java/util/List", "iterator", "()Ljava/util/Iterator;"⟩ 0 = true by decide +kernel) rfl q1048 q1051 q1053 q81 q1055 (List.mem_of_getElem? (i := 10) rfl) rfl (Nat.le_of_ble_eq_true rfl) dX2_isUsed_4 rfl hq16 hp21 hp22 (cj_J2_iterator G l k19 k20 y15 h _ hw) (k_R (fun r17 h18 hw => ?_))
  refine r_astore_nO (x := r17) (L' := [(2, va_rf r17), (0, .ref a0), (1, .int i1)]) C rfl (by decide) rfl dX2_isUsed_9 ?_
  obtain ⟨k9, hw⟩ := hw
  exact r_sub C [2, 0] rfl (b_X2_isUsed_10 C _ _ _ _ _ _ hp21 hp22 hw)
def w_X7_init (a0 : Nat) (a1 : Nat) (a2 : Nat) (a3 : Nat) (h : Hp) (Q : Hp → Prop) : Prop :=
  pf h a0 6 2 (.ref a1) (fun h1 => pf h1 a0 6 0 (.ref a2) (fun h2 => pf h2 a0 6 1 (.ref a3) (fun h3 => Q h3)))
theorem sg_X7_init : ySg yX7_init 3 = true := by decide +kernel
theorem c_X7_init (G : gT) (l : Launch) (a0 : Nat) (a1 : Nat) (a2 : Nat) (a3 : Nat) (h : Hp) (Q : Hp → Prop) (hw : w_X7_init a0 a1 a2 a3 h Q) : Ct G l yX7_init (ws_ yX7_init cX7_init 4 (none)) 1 12 0 0 [.ref a0, .ref a1, .ref a2, .ref a3] h (pV Q) := by
  refine Ct.of (own := RX7) true (by decide +kernel) rfl (show (_ : Nat) ≤ _ from Nat.le_of_ble_eq_true rfl) (fun _ => rfl) (fun V C => ?_)
  show V h 0 0 0 [(0, .ref a0), (1, .ref a1), (2, .ref a2), (3, .ref a3)] []
  unfold w_X7_init at hw
  refine r_aload_n C rfl 0 rfl dX7_init_0 (r_aload_n C rfl 1 rfl dX7_init_1 ?_)
  refine r_pf (k := 2) (v := .ref a1) C kX7 (by decide) (Or.inl q1441) (Or.inl rfl) (Or.inr ⟨rfl, rfl, q1441⟩) rfl rfl dX7_init_2 hw (fun h1 hw => ?_)
  refine r_aload_n C rfl 0 rfl dX7_init_5 (r_aload_n C rfl 2 rfl dX7_init_6 ?_)
  refine r_pf (k := 0) (v := .ref a2) C kX7 (by decide) (Or.inl q1439) (Or.inl rfl) (Or.inr ⟨rfl, rfl, q1439⟩) rfl rfl dX7_init_7 hw (fun h2 hw => ?_)
  refine r_aload_n C rfl 0 rfl dX7_init_10 (r_aload_n C rfl 3 rfl dX7_init_11 ?_)
  refine r_pf (k := 1) (v := .ref a3) C kX7 (by decide) (Or.inl q1440) (Or.inl rfl) (Or.inr ⟨rfl, rfl, q1440⟩) rfl rfl dX7_init_12 hw (fun h3 hw => ?_)
  refine r_aload_n C rfl 0 rfl dX7_init_15 ?_
  refine r_objInit C q1438 q128 q129 (by decide) (by decide) dX7_init_16 ?_
  exact r_return C dX7_init_19 (Nat.le_refl _) (Nat.le_refl _) ⟨rfl, hw⟩
def w_X2_yearsOf_2 (mc ms : Nat) (a0 : Nat) (a1 : Nat) (h : Hp) (Q : Option Nat → Hp → Prop) : Prop :=
  gfR h a0 1 1 (fun v1 => gfI h a1 5 0 (fun v2 => nn v1 (fun y3 => hasC h y3 8 ∧ (wj_J2_get y3 v2 h (fun r5 h6 => (∀ z7 : Nat, r5 = some z7 → hasC h6 z7 4) ∧ (0 + 1 ≤ mc ∧ 0 + 3 ≤ ms ∧ (nwO h6 6 [.null, .null, .null] (fun q11 h12 => nn r5 (fun y13 => w_X7_init q11 a0 y13 a1 h12 (fun h15 => ∃ k18 k19 : Nat, (0 + 1) + k18 ≤ mc ∧ (0 + 3) + k19 ≤ ms ∧ (w_X1_years k18 k19 q11 h15 (fun r16 h17 => Q r16 h17))))))))))))
theorem sg_X2_yearsOf_2 : ySg yX2_yearsOf_2 1 = true := by decide +kernel
theorem c_X2_yearsOf_2 (G : gT) (l : Launch) (mc ms : Nat) (a0 : Nat) (a1 : Nat) (h : Hp) (Q : Option Nat → Hp → Prop) (hw : w_X2_yearsOf_2 mc ms a0 a1 h Q) : Ct G l yX2_yearsOf_2 (ws_ yX2_yearsOf_2 cX2_yearsOf_2 3 (some (.object "java/util/BitSet"))) 7 148 mc ms [.ref a0, .ref a1] h (pR Q) := by
  refine Ct.of (own := RX2) false (by decide +kernel) rfl (show (_ : Nat) ≤ _ from Nat.le_of_ble_eq_true rfl) (fun z => by cases z) (fun V C => ?_)
  show V h 0 0 0 [(0, .ref a0), (1, .ref a1)] []
  unfold w_X2_yearsOf_2 at hw
  refine r_aload_n C rfl 0 rfl dX2_yearsOf_2_0 ?_
  refine r_gfR (k := 1) C kX2 (by decide) (Or.inl q303) (Or.inl rfl) dX2_yearsOf_2_1 hw (fun v1 hw => ?_)
  refine r_aload_n C rfl 1 rfl dX2_yearsOf_2_4 ?_
  refine r_gfI (k := 0) C kX6 (by decide) (Or.inr ⟨_, (List.mem_of_getElem? (i := 27) rfl)⟩) (Or.inl rfl) dX2_yearsOf_2_5 hw (fun v2 hw => ?_)
  obtain ⟨y3, rfl, hw_y3⟩ := hw
  have hw := hw_y3
  obtain ⟨hq4, hw⟩ := hw
  refine r_callF (ci := 8) (rest := []) (As := [.int v2]) C (x := ⟨"java/util/List", "get", "(I)Ljava/lang/Object;"⟩) (show ySg ⟨"java/util/List", "get", "(I)Ljava/lang/Object;"⟩ 1 = true by decide +kernel) rfl q450 q453 q455 q81 q457 (List.mem_of_getElem? (i := 6) rfl) rfl (Nat.le_of_ble_eq_true rfl) dX2_yearsOf_2_8 rfl hq4 (Nat.zero_le _) (Nat.zero_le _) (cj_J2_get G l y3 v2 h _ hw) (k_R (fun r5 h6 hw => ?_))
  obtain ⟨e8, hw⟩ := hw
  refine r_cast (x := r5) C (ci := 4) rfl q847 dX2_yearsOf_2_13 e8 ?_
  refine r_astore_nO (x := r5) (L' := [(2, va_rf r5), (0, .ref a0), (1, .ref a1)]) C rfl (by decide) rfl dX2_yearsOf_2_16 ?_
  obtain ⟨hp9, hp10, hw⟩ := hw
  refine r_new C kX7 q1433 q1434 q117 df_6 dX2_yearsOf_2_17 hp9 hp10 hw (fun q11 h12 hw => ?_)
  refine r_dup C rfl dX2_yearsOf_2_20 (r_aload_n C rfl 1 rfl dX2_yearsOf_2_21 (r_aload_nO C rfl 0 rfl dX2_yearsOf_2_22 (r_aload_n C rfl 2 rfl dX2_yearsOf_2_23 ?_)))
  obtain ⟨y13, rfl, hw_y13⟩ := hw
  have hw := hw_y13
  refine r_callI (rest := [.ref q11]) (As := [.ref a0, .ref y13, .ref a1]) C sg_X7_init rfl q1435 q1436 q117 q1437 rfl (Nat.le_of_ble_eq_true rfl) dX2_yearsOf_2_24 rfl hp9 hp10 (c_X7_init G l q11 a0 y13 a1 h12 _ hw) (k_V (fun h15 hw => ?_))
  obtain ⟨k18, k19, hp20, hp21, hw⟩ := hw
  refine r_callSN (rest := []) (As := [.ref q11]) C sg_X1_years (List.mem_of_getElem? (i := 48) rfl) q1450 q77 q1451 rfl (Nat.le_of_ble_eq_true rfl) dX2_yearsOf_2_27 rfl hp20 hp21 (c_X1_years G l k18 k19 q11 h15 _ hw) (k_R (fun r16 h17 hw => ?_))
  exact r_areturn (x := r16) C (by first | exact Or.inl ⟨_, rfl⟩ | exact Or.inr ⟨_, rfl⟩) dX2_yearsOf_2_30 hp20 hp21 ⟨_, rfl, hw⟩
def B_X2_possible_48 (mc ms : Nat) (Q : Option Nat → Hp → Prop) (h : Hp) (c : Nat) (n : Nat) (x0 : Nat) (x1 : Int32) : Prop :=
  gfR h x0 1 5 (fun v24 => nn v24 (fun y25 => rdR 3 h y25 x1 (fun v26 => Q v26 h)))
def B_X2_possible_16 (mc ms : Nat) (Q : Option Nat → Hp → Prop) (h : Hp) (c : Nat) (n : Nat) (x0 : Nat) (x1 : Int32) : Prop :=
  gfR h x0 1 5 (fun v1 => nn v1 (fun y2 => rdR 3 h y2 x1 (fun v3 => (v3 = none → gfR h x0 1 5 (fun v5 => gfR h x0 1 2 (fun v6 => nn v6 (fun y7 => hasC h y7 8 ∧ (wj_J2_get y7 x1 h (fun r9 h10 => (∀ z11 : Nat, r9 = some z11 → hasC h10 z11 5) ∧ (nn r9 (fun y13 => hasC h10 x0 1 ∧ (∃ k17 k18 : Nat, c + k17 ≤ mc ∧ n + k18 ≤ ms ∧ (w_X2_yearsOf_2 k17 k18 x0 y13 h10 (fun r15 h16 => nn v5 (fun y22 => wrR 3 h16 y22 x1 r15 (fun h21 => B_X2_possible_48 mc ms Q h21 (c + k17) (n + k18) x0 x1))))))))))))) ∧ (∀ y4 : Nat, v3 = some y4 → B_X2_possible_48 mc ms Q h c n x0 x1))))
def w_X2_possible (mc ms : Nat) (a0 : Nat) (i1 : Int32) (h : Hp) (Q : Option Nat → Hp → Prop) : Prop :=
  gfR h a0 1 5 (fun v27 => (v27 = none → 0 + 1 ≤ mc ∧ 0 + 24 ≤ ms ∧ (nwA h 3 (24, .inr (.inr (.inr (.inr (fun _ => none))))) (fun q31 h32 => pf h32 a0 1 5 (.ref q31) (fun h33 => B_X2_possible_16 mc ms Q h33 (0 + 1) (0 + 24) a0 i1)))) ∧ (∀ y28 : Nat, v27 = some y28 → B_X2_possible_16 mc ms Q h 0 0 a0 i1))
theorem b_X2_possible_48 {G : gT} {l : Launch} {V : Hp → Nat → Nat → Nat → List (Nat × Value) → List Value → Prop} {mc ms : Nat} {Q : Option Nat → Hp → Prop} (C : Cx G l V cX2_possible 2 RX2 8 170 mc ms (pR Q) none (some (.object "java/util/BitSet")) [] false) (h : Hp) (c : Nat) (n : Nat) (x0 : Nat) (x1 : Int32) (b1 : c ≤ mc) (b2 : n ≤ ms) (hw : B_X2_possible_48 mc ms Q h c n x0 x1) : V h c n 48 [(0, .ref x0), (1, .int x1)] [] := by
  unfold B_X2_possible_48 at hw
  refine r_aload_n C rfl 0 rfl dX2_possible_48 ?_
  refine r_gfR (k := 5) C kX2 (by decide) (Or.inl q312) (Or.inl rfl) dX2_possible_49 hw (fun v24 hw => ?_)
  refine r_iload_n C rfl 1 rfl dX2_possible_52 ?_
  obtain ⟨y25, rfl, hw_y25⟩ := hw
  have hw := hw_y25
  refine r_aaload (t := 3) C rfl dX2_possible_53 hw (fun v26 hw => ?_)
  exact r_areturn (x := v26) C (by first | exact Or.inl ⟨_, rfl⟩ | exact Or.inr ⟨_, rfl⟩) dX2_possible_54 b1 b2 ⟨_, rfl, hw⟩
theorem b_X2_possible_16 {G : gT} {l : Launch} {V : Hp → Nat → Nat → Nat → List (Nat × Value) → List Value → Prop} {mc ms : Nat} {Q : Option Nat → Hp → Prop} (C : Cx G l V cX2_possible 2 RX2 8 170 mc ms (pR Q) none (some (.object "java/util/BitSet")) [] false) (h : Hp) (c : Nat) (n : Nat) (x0 : Nat) (x1 : Int32) (b1 : c ≤ mc) (b2 : n ≤ ms) (hw : B_X2_possible_16 mc ms Q h c n x0 x1) : V h c n 16 [(0, .ref x0), (1, .int x1)] [] := by
  unfold B_X2_possible_16 at hw
  refine r_aload_n C rfl 0 rfl dX2_possible_16 ?_
  refine r_gfR (k := 5) C kX2 (by decide) (Or.inl q312) (Or.inl rfl) dX2_possible_17 hw (fun v1 hw => ?_)
  refine r_iload_n C rfl 1 rfl dX2_possible_20 ?_
  obtain ⟨y2, rfl, hw_y2⟩ := hw
  have hw := hw_y2
  refine r_aaload (t := 3) C rfl dX2_possible_21 hw (fun v3 hw => ?_)
  refine r_ifnonnull (x := v3) (tgt := 48) C (by decide) dX2_possible_22 (fun y4 hc23 => ?_) (fun hc23 => ?_)
  · have hw_y4 := hw.2 y4 hc23
    subst hc23
    have hw := hw_y4
    exact r_sub C [0, 1] rfl (b_X2_possible_48 C _ _ _ _ _ b1 b2 hw)
  · have hw_y4 := hw.1 hc23
    subst hc23
    have hw := hw_y4
    refine r_aload_n C rfl 0 rfl dX2_possible_25 ?_
    refine r_gfR (k := 5) C kX2 (by decide) (Or.inl q312) (Or.inl rfl) dX2_possible_26 hw (fun v5 hw => ?_)
    refine r_iload_n C rfl 1 rfl dX2_possible_29 (r_aload_n C rfl 0 rfl dX2_possible_30 (r_aload_n C rfl 0 rfl dX2_possible_31 ?_))
    refine r_gfR (k := 2) C kX2 (by decide) (Or.inl q305) (Or.inl rfl) dX2_possible_32 hw (fun v6 hw => ?_)
    refine r_iload_n C rfl 1 rfl dX2_possible_35 ?_
    obtain ⟨y7, rfl, hw_y7⟩ := hw
    have hw := hw_y7
    obtain ⟨hq8, hw⟩ := hw
    refine r_callF (ci := 8) (rest := [.ref x0, .int x1, va_rf v5]) (As := [.int x1]) C (x := ⟨"java/util/List", "get", "(I)Ljava/lang/Object;"⟩) (show ySg ⟨"java/util/List", "get", "(I)Ljava/lang/Object;"⟩ 1 = true by decide +kernel) rfl q450 q453 q455 q81 q457 (List.mem_of_getElem? (i := 6) rfl) rfl (by rcases v5 with _ | _ <;> exact Nat.le_of_ble_eq_true rfl) dX2_possible_36 rfl hq8 b1 b2 (cj_J2_get G l y7 x1 h _ hw) (k_R (fun r9 h10 hw => ?_))
    obtain ⟨e12, hw⟩ := hw
    refine r_cast (x := r9) C (ci := 5) rfl q992 dX2_possible_41 e12 ?_
    obtain ⟨y13, rfl, hw_y13⟩ := hw
    have hw := hw_y13
    obtain ⟨hq14, hw⟩ := hw
    obtain ⟨k17, k18, hp19, hp20, hw⟩ := hw
    refine r_callV (ci := 1) (rest := [.int x1, va_rf v5]) (As := [.ref y13]) C sg_X2_yearsOf_2 rfl rfl q1429 q1431 qs26 q78 q1432 rfl (by rcases v5 with _ | _ <;> exact Nat.le_of_ble_eq_true rfl) dX2_possible_44 rfl hq14 hp19 hp20 (c_X2_yearsOf_2 G l k17 k18 x0 y13 h10 _ hw) (k_R (fun r15 h16 hw => ?_))
    obtain ⟨y22, rfl, hw_y22⟩ := hw
    have hw := hw_y22
    refine r_aastore (t := 3) (x := r15) C (by decide) rfl dX2_possible_47 hw (fun h21 hw => ?_)
    exact r_sub C [0, 1] rfl (b_X2_possible_48 C _ _ _ _ _ hp19 hp20 hw)
theorem sg_X2_possible : ySg yX2_possible 1 = true := by decide +kernel
theorem c_X2_possible (G : gT) (l : Launch) (mc ms : Nat) (a0 : Nat) (i1 : Int32) (h : Hp) (Q : Option Nat → Hp → Prop) (hw : w_X2_possible mc ms a0 i1 h Q) : Ct G l yX2_possible (ws_ yX2_possible cX2_possible 2 (some (.object "java/util/BitSet"))) 8 170 mc ms [.ref a0, .int i1] h (pR Q) := by
  refine Ct.of (own := RX2) false (by decide +kernel) rfl (show (_ : Nat) ≤ _ from Nat.le_of_ble_eq_true rfl) (fun z => by cases z) (fun V C => ?_)
  show V h 0 0 0 [(0, .ref a0), (1, .int i1)] []
  unfold w_X2_possible at hw
  refine r_aload_n C rfl 0 rfl dX2_possible_0 ?_
  refine r_gfR (k := 5) C kX2 (by decide) (Or.inl q312) (Or.inl rfl) dX2_possible_1 hw (fun v27 hw => ?_)
  refine r_ifnonnull (x := v27) (tgt := 16) C (by decide) dX2_possible_4 (fun y28 hc34 => ?_) (fun hc34 => ?_)
  · have hw_y28 := hw.2 y28 hc34
    subst hc34
    have hw := hw_y28
    exact r_sub C [0, 1] rfl (b_X2_possible_16 C _ _ _ _ _ (Nat.zero_le _) (Nat.zero_le _) hw)
  · have hw_y28 := hw.1 hc34
    subst hc34
    have hw := hw_y28
    refine r_aload_n C rfl 0 rfl dX2_possible_7 (r_bipush (v := (24 : Int32)) C (by decide) dX2_possible_8 ?_)
    obtain ⟨hp29, hp30, hw⟩ := hw
    refine r_newq (N := 24) (t := 3) C q1391 (by decide) (by decide) rfl (by decide) (by decide) (by decide) dX2_possible_10 hp29 hp30 hw (fun q31 h32 hw => ?_)
    refine r_pf (k := 5) (v := .ref q31) C kX2 (by decide) (Or.inl q312) (Or.inl rfl) (Or.inl rfl) rfl rfl dX2_possible_13 hw (fun h33 hw => ?_)
    exact r_sub C [0, 1] rfl (b_X2_possible_16 C _ _ _ _ _ hp29 hp30 hw)
def B_X2_alone_53 (mc ms : Nat) (Q : Int32 → Hp → Prop) (h : Hp) (c : Nat) (n : Nat) (x0 : Nat) (x1 : Int32) : Prop :=
  hasC h x0 1 ∧ (∃ k4 k5 : Nat, c + k4 ≤ mc ∧ n + k5 ≤ ms ∧ (w_X2_possible k4 k5 x0 x1 h (fun r2 h3 => nn r2 (fun y8 => hasC h3 y8 15 ∧ (wj_J30_isEmpty y8 h3 (fun r10 h11 => Q (if r10 = false then (0 : Int32) else (3 : Int32)) h11))))))
def w_X2_alone (mc ms : Nat) (a0 : Nat) (i1 : Int32) (h : Hp) (Q : Int32 → Hp → Prop) : Prop :=
  gfR h a0 1 2 (fun v14 => nn v14 (fun y15 => hasC h y15 8 ∧ (wj_J2_get y15 i1 h (fun r17 h18 => (∀ z19 : Nat, r17 = some z19 → hasC h18 z19 5) ∧ (nn r17 (fun y21 => gfI h18 y21 5 3 (fun v22 => gfR h18 a0 1 4 (fun v23 => gfI h18 y21 5 1 (fun v24 => nn v23 (fun y25 => rdI h18 y25 v24 (fun v26 => (v22 ≤ v26 → gfI h18 y21 5 2 (fun v28 => (v28 = (-1 : Int32) → B_X2_alone_53 mc ms Q h18 0 0 a0 i1) ∧ (¬ v28 = (-1 : Int32) → gfI h18 y21 5 2 (fun v30 => hasC h18 a0 1 ∧ (∃ k34 k35 : Nat, 0 + k34 ≤ mc ∧ 0 + k35 ≤ ms ∧ (w_X2_isUsed k34 k35 a0 v30 h18 (fun r32 h33 => (r32 = true → B_X2_alone_53 mc ms Q h33 (0 + k34) (0 + k35) a0 i1) ∧ (r32 = false → Q (2 : Int32) h33)))))))) ∧ (¬ v22 ≤ v26 → Q (1 : Int32) h18))))))))))))
theorem b_X2_alone_53 {G : gT} {l : Launch} {V : Hp → Nat → Nat → Nat → List (Nat × Value) → List Value → Prop} {mc ms : Nat} {Q : Int32 → Hp → Prop} (C : Cx G l V cX2_alone 3 RX2 9 191 mc ms (pI Q) none (some .int) [] false) (h : Hp) (c : Nat) (n : Nat) (x0 : Nat) (x1 : Int32) (b1 : c ≤ mc) (b2 : n ≤ ms) (hw : B_X2_alone_53 mc ms Q h c n x0 x1) : V h c n 53 [(0, .ref x0), (1, .int x1)] [] := by
  unfold B_X2_alone_53 at hw
  refine r_aload_n C rfl 0 rfl dX2_alone_53 (r_iload_n C rfl 1 rfl dX2_alone_54 ?_)
  obtain ⟨hq1, hw⟩ := hw
  obtain ⟨k4, k5, hp6, hp7, hw⟩ := hw
  refine r_callV (ci := 1) (rest := []) (As := [.int x1]) C sg_X2_possible rfl rfl q1424 q1425 q1426 q78 q1427 rfl (Nat.le_of_ble_eq_true rfl) dX2_alone_55 rfl hq1 hp6 hp7 (c_X2_possible G l k4 k5 x0 x1 h _ hw) (k_R (fun r2 h3 hw => ?_))
  obtain ⟨y8, rfl, hw_y8⟩ := hw
  have hw := hw_y8
  obtain ⟨hq9, hw⟩ := hw
  refine r_callV (ci := 15) (rest := []) (As := []) C sg_J30_isEmpty rfl rfl q1510 q1511 q1512 q116 q1513 rfl (Nat.le_of_ble_eq_true rfl) dX2_alone_58 rfl hq9 hp6 hp7 (cj_J30_isEmpty G l y8 h3 _ hw) (k_Z (fun r10 h11 hw => ?_))
  have hJ : V h11 (c + k4) (n + k5) 69 [] [.int (if r10 = false then (0 : Int32) else (3 : Int32))] := by
    exact r_ireturn C dX2_alone_69 hp6 hp7 ⟨_, rfl, hw⟩
  refine r_if_eq_b (tgt := 68) C (by decide) dX2_alone_61 (fun hc12 => ?_) (fun hc12 => ?_)
  · have hJ13 := hJ
    try simp only [if_pos hc12] at hJ13
    refine r_iconst (v := (0 : Int32)) C (by decide) dX2_alone_68 ?_
    exact r_sub C [] rfl hJ13
  · have hJ13 := hJ
    try simp only [if_neg (show ¬ r10 = false from by rw [hc12]; decide)] at hJ13
    refine r_iconst (v := (3 : Int32)) C (by decide) dX2_alone_64 (r_goto (tgt := 69) C (by decide) dX2_alone_65 ?_)
    exact r_sub C [] rfl hJ13
theorem sg_X2_alone : ySg yX2_alone 1 = true := by decide +kernel
theorem c_X2_alone (G : gT) (l : Launch) (mc ms : Nat) (a0 : Nat) (i1 : Int32) (h : Hp) (Q : Int32 → Hp → Prop) (hw : w_X2_alone mc ms a0 i1 h Q) : Ct G l yX2_alone (ws_ yX2_alone cX2_alone 3 (some .int)) 9 191 mc ms [.ref a0, .int i1] h (pI Q) := by
  refine Ct.of (own := RX2) false (by decide +kernel) rfl (show (_ : Nat) ≤ _ from Nat.le_of_ble_eq_true rfl) (fun z => by cases z) (fun V C => ?_)
  show V h 0 0 0 [(0, .ref a0), (1, .int i1)] []
  unfold w_X2_alone at hw
  refine r_aload_n C rfl 0 rfl dX2_alone_0 ?_
  refine r_gfR (k := 2) C kX2 (by decide) (Or.inl q305) (Or.inl rfl) dX2_alone_1 hw (fun v14 hw => ?_)
  refine r_iload_n C rfl 1 rfl dX2_alone_4 ?_
  obtain ⟨y15, rfl, hw_y15⟩ := hw
  have hw := hw_y15
  obtain ⟨hq16, hw⟩ := hw
  refine r_callF (ci := 8) (rest := []) (As := [.int i1]) C (x := ⟨"java/util/List", "get", "(I)Ljava/lang/Object;"⟩) (show ySg ⟨"java/util/List", "get", "(I)Ljava/lang/Object;"⟩ 1 = true by decide +kernel) rfl q450 q453 q455 q81 q457 (List.mem_of_getElem? (i := 6) rfl) rfl (Nat.le_of_ble_eq_true rfl) dX2_alone_5 rfl hq16 (Nat.zero_le _) (Nat.zero_le _) (cj_J2_get G l y15 i1 h _ hw) (k_R (fun r17 h18 hw => ?_))
  obtain ⟨e20, hw⟩ := hw
  refine r_cast (x := r17) C (ci := 5) rfl q992 dX2_alone_10 e20 ?_
  refine r_astore_nO (x := r17) (L' := [(2, va_rf r17), (0, .ref a0), (1, .int i1)]) C rfl (by decide) rfl dX2_alone_13 (r_aload_nO C rfl 0 rfl dX2_alone_14 ?_)
  obtain ⟨y21, rfl, hw_y21⟩ := hw
  have hw := hw_y21
  refine r_gfI (k := 3) C kX6 (by decide) (Or.inr ⟨_, (List.mem_of_getElem? (i := 34) rfl)⟩) (Or.inl rfl) dX2_alone_15 hw (fun v22 hw => ?_)
  refine r_aload_n C rfl 1 rfl dX2_alone_18 ?_
  refine r_gfR (k := 4) C kX2 (by decide) (Or.inl q310) (Or.inl rfl) dX2_alone_19 hw (fun v23 hw => ?_)
  refine r_aload_n C rfl 0 rfl dX2_alone_22 ?_
  refine r_gfI (k := 1) C kX6 (by decide) (Or.inr ⟨_, (List.mem_of_getElem? (i := 29) rfl)⟩) (Or.inl rfl) dX2_alone_23 hw (fun v24 hw => ?_)
  obtain ⟨y25, rfl, hw_y25⟩ := hw
  have hw := hw_y25
  refine r_iaload C dX2_alone_26 hw (fun v26 hw => ?_)
  refine r_icmp_le (tgt := 32) C (by decide) dX2_alone_27 (fun hc27 => ?_) (fun hc27 => ?_)
  · have hw := hw.1 hc27
    refine r_aload_n C rfl 0 rfl dX2_alone_32 ?_
    refine r_gfI (k := 2) C kX6 (by decide) (Or.inr ⟨_, (List.mem_of_getElem? (i := 32) rfl)⟩) (Or.inl rfl) dX2_alone_33 hw (fun v28 hw => ?_)
    refine r_iconst (v := (-1 : Int32)) C (by decide) dX2_alone_36 ?_
    refine r_icmp_eq (tgt := 53) C (by decide) dX2_alone_37 (fun hc29 => ?_) (fun hc29 => ?_)
    · have hw := hw.1 hc29
      exact r_sub C [1, 2] rfl (b_X2_alone_53 C _ _ _ _ _ (Nat.zero_le _) (Nat.zero_le _) hw)
    · have hw := hw.2 hc29
      refine r_aload_n C rfl 1 rfl dX2_alone_40 (r_aload_n C rfl 0 rfl dX2_alone_41 ?_)
      refine r_gfI (k := 2) C kX6 (by decide) (Or.inr ⟨_, (List.mem_of_getElem? (i := 32) rfl)⟩) (Or.inl rfl) dX2_alone_42 hw (fun v30 hw => ?_)
      obtain ⟨hq31, hw⟩ := hw
      obtain ⟨k34, k35, hp36, hp37, hw⟩ := hw
      refine r_callV (ci := 1) (rest := []) (As := [.int v30]) C sg_X2_isUsed rfl rfl q1420 q1422 qs25 q78 q1423 rfl (Nat.le_of_ble_eq_true rfl) dX2_alone_45 rfl hq31 hp36 hp37 (c_X2_isUsed G l k34 k35 a0 v30 h18 _ hw) (k_Z (fun r32 h33 hw => ?_))
      refine r_if_ne_b (tgt := 53) C (by decide) dX2_alone_48 (fun hc38 => ?_) (fun hc38 => ?_)
      · have hw := hw.1 hc38
        exact r_sub C [1, 2] rfl (b_X2_alone_53 C _ _ _ _ _ hp36 hp37 hw)
      · have hw := hw.2 hc38
        refine r_iconst (v := (2 : Int32)) C (by decide) dX2_alone_51 ?_
        exact r_ireturn C dX2_alone_52 hp36 hp37 ⟨_, rfl, hw⟩
  · have hw := hw.2 hc27
    refine r_iconst (v := (1 : Int32)) C (by decide) dX2_alone_30 ?_
    exact r_ireturn C dX2_alone_31 (Nat.zero_le _) (Nat.zero_le _) ⟨_, rfl, hw⟩
def B_X2_yearsOf_98 (mc ms : Nat) (Q : Option Nat → Hp → Prop) (LA17 : Hp → Nat → Nat → Nat → Int32 → Int32 → Nat → Bool → Int32 → Prop) (h : Hp) (c : Nat) (n : Nat) (x0 : Nat) (x1 : Int32) (x2 : Int32) (x3 : Nat) (x4 : Bool) (x5 : Int32) : Prop :=
  LA17 h c n x0 x1 x2 x3 x4 (x5 + (1 : Int32))
def B_X2_yearsOf_95 (mc ms : Nat) (Q : Option Nat → Hp → Prop) (LA17 : Hp → Nat → Nat → Nat → Int32 → Int32 → Nat → Bool → Int32 → Prop) (h : Hp) (c : Nat) (n : Nat) (x0 : Nat) (x1 : Int32) (x2 : Int32) (x3 : Nat) (x5 : Int32) : Prop :=
  B_X2_yearsOf_98 mc ms Q LA17 h c n x0 x1 x2 x3 true x5
def S_X2_yearsOf_17 (mc ms : Nat) (Q : Option Nat → Hp → Prop) (LA17 : Hp → Nat → Nat → Nat → Int32 → Int32 → Nat → Bool → Int32 → Prop) (h : Hp) (c : Nat) (n : Nat) (x0 : Nat) (x1 : Int32) (x2 : Int32) (x3 : Nat) (x4 : Bool) (x5 : Int32) : Prop :=
  gfR h x0 1 2 (fun v1 => nn v1 (fun y2 => hasC h y2 8 ∧ (wj_J2_size y2 h (fun r4 h5 => (r4 ≤ x5 → Q (some x3) h5) ∧ (¬ r4 ≤ x5 → (x5 = x2 → B_X2_yearsOf_98 mc ms Q LA17 h5 c n x0 x1 x2 x3 x4 x5) ∧ (¬ x5 = x2 → gfR h5 x0 1 2 (fun v8 => nn v8 (fun y9 => hasC h5 y9 8 ∧ (wj_J2_get y9 x5 h5 (fun r11 h12 => (∀ z13 : Nat, r11 = some z13 → hasC h12 z13 5) ∧ (nn r11 (fun y15 => gfI h12 y15 5 5 (fun v16 => (¬ v16 = x1 → B_X2_yearsOf_98 mc ms Q LA17 h12 c n x0 x1 x2 x3 x4 x5) ∧ (v16 = x1 → hasC h12 x0 1 ∧ (∃ k21 k22 : Nat, c + k21 ≤ mc ∧ n + k22 ≤ ms ∧ (w_X2_alone k21 k22 x0 x5 h12 (fun r19 h20 => (¬ r19 = 0 → B_X2_yearsOf_98 mc ms Q LA17 h20 (c + k21) (n + k22) x0 x1 x2 x3 x4 x5) ∧ (r19 = 0 → (x4 = false → hasC h20 x0 1 ∧ (∃ k30 k31 : Nat, (c + k21) + k30 ≤ mc ∧ (n + k22) + k31 ≤ ms ∧ (w_X2_possible k30 k31 x0 x5 h20 (fun r28 h29 => nn r28 (fun y34 => hasC h29 x3 15 ∧ (wj_J30_or x3 y34 h29 (fun h37 => B_X2_yearsOf_95 mc ms Q LA17 h37 ((c + k21) + k30) ((n + k22) + k31) x0 x1 x2 x3 x5))))))) ∧ (x4 = true → hasC h20 x0 1 ∧ (∃ k41 k42 : Nat, (c + k21) + k41 ≤ mc ∧ (n + k22) + k42 ≤ ms ∧ (w_X2_possible k41 k42 x0 x5 h20 (fun r39 h40 => nn r39 (fun y45 => hasC h40 x3 15 ∧ (wj_J30_and x3 y45 h40 (fun h48 => B_X2_yearsOf_95 mc ms Q LA17 h48 ((c + k21) + k41) ((n + k22) + k42) x0 x1 x2 x3 x5)))))))))))))))))))))))))
def B_X2_yearsOf_17 (mc ms : Nat) (Q : Option Nat → Hp → Prop) : Nat → Hp → Nat → Nat → Nat → Int32 → Int32 → Nat → Bool → Int32 → Prop
  | 0, _, _, _, _, _, _, _, _, _ => False
  | k + 1, h, c, n, x0, x1, x2, x3, x4, x5 => S_X2_yearsOf_17 mc ms Q (B_X2_yearsOf_17 mc ms Q k) h c n x0 x1 x2 x3 x4 x5
def w_X2_yearsOf (mc ms : Nat) (a0 : Nat) (i1 : Int32) (i2 : Int32) (h : Hp) (Q : Option Nat → Hp → Prop) : Prop :=
  0 + 1 ≤ mc ∧ 0 + 3 ≤ ms ∧ (nwO h 15 [.null, .int 0, .int 0] (fun q51 h52 => ∃ k55 k56 : Nat, (0 + 1) + k55 ≤ mc ∧ (0 + 3) + k56 ≤ ms ∧ (wj_J30_init k55 k56 q51 (1000 : Int32) h52 (fun h54 => ∃ k9 : Nat, B_X2_yearsOf_17 mc ms Q k9 h54 ((0 + 1) + k55) ((0 + 3) + k56) a0 i1 i2 q51 false (0 : Int32)))))
theorem b_X2_yearsOf_98 {G : gT} {l : Launch} {V : Hp → Nat → Nat → Nat → List (Nat × Value) → List Value → Prop} {mc ms : Nat} {Q : Option Nat → Hp → Prop} (C : Cx G l V cX2_yearsOf 6 RX2 10 213 mc ms (pR Q) none (some (.object "java/util/BitSet")) [] false) (LA17 : Hp → Nat → Nat → Nat → Int32 → Int32 → Nat → Bool → Int32 → Prop) (hLA17 : ∀ (h : Hp) (c : Nat) (n : Nat) (x0 : Nat) (x1 : Int32) (x2 : Int32) (x3 : Nat) (x4 : Bool) (x5 : Int32), c ≤ mc → n ≤ ms → LA17 h c n x0 x1 x2 x3 x4 x5 → V h c n 17 [(0, .ref x0), (1, .int x1), (2, .int x2), (3, .ref x3), (4, .int (bI x4)), (5, .int x5)] []) (h : Hp) (c : Nat) (n : Nat) (x0 : Nat) (x1 : Int32) (x2 : Int32) (x3 : Nat) (x4 : Bool) (x5 : Int32) (b1 : c ≤ mc) (b2 : n ≤ ms) (hw : B_X2_yearsOf_98 mc ms Q LA17 h c n x0 x1 x2 x3 x4 x5) : V h c n 98 [(0, .ref x0), (1, .int x1), (2, .int x2), (3, .ref x3), (4, .int (bI x4)), (5, .int x5)] [] := by
  unfold B_X2_yearsOf_98 at hw
  refine r_iinc (v := x5 + (1 : Int32)) (L' := [(5, .int (x5 + (1 : Int32))), (0, .ref x0), (1, .int x1), (2, .int x2), (3, .ref x3), (4, .int (bI x4))]) C (u := 5) rfl (by rfl) (by decide) rfl dX2_yearsOf_98 (r_goto (tgt := 17) C (by decide) dX2_yearsOf_101 ?_)
  exact r_sub C [1, 2, 3, 4, 5, 0] rfl (hLA17 _ _ _ _ _ _ _ _ _ b1 b2 hw)
theorem b_X2_yearsOf_95 {G : gT} {l : Launch} {V : Hp → Nat → Nat → Nat → List (Nat × Value) → List Value → Prop} {mc ms : Nat} {Q : Option Nat → Hp → Prop} (C : Cx G l V cX2_yearsOf 6 RX2 10 213 mc ms (pR Q) none (some (.object "java/util/BitSet")) [] false) (LA17 : Hp → Nat → Nat → Nat → Int32 → Int32 → Nat → Bool → Int32 → Prop) (hLA17 : ∀ (h : Hp) (c : Nat) (n : Nat) (x0 : Nat) (x1 : Int32) (x2 : Int32) (x3 : Nat) (x4 : Bool) (x5 : Int32), c ≤ mc → n ≤ ms → LA17 h c n x0 x1 x2 x3 x4 x5 → V h c n 17 [(0, .ref x0), (1, .int x1), (2, .int x2), (3, .ref x3), (4, .int (bI x4)), (5, .int x5)] []) (h : Hp) (c : Nat) (n : Nat) (x0 : Nat) (x1 : Int32) (x2 : Int32) (x3 : Nat) (x5 : Int32) (b1 : c ≤ mc) (b2 : n ≤ ms) (hw : B_X2_yearsOf_95 mc ms Q LA17 h c n x0 x1 x2 x3 x5) : V h c n 95 [(0, .ref x0), (1, .int x1), (2, .int x2), (3, .ref x3), (5, .int x5)] [] := by
  unfold B_X2_yearsOf_95 at hw
  refine r_iconst (v := (1 : Int32)) C (by decide) dX2_yearsOf_95 (r_istore (L' := [(4, .int (1 : Int32)), (0, .ref x0), (1, .int x1), (2, .int x2), (3, .ref x3), (5, .int x5)]) C (by decide) rfl dX2_yearsOf_96 ?_)
  exact r_sub C [1, 2, 3, 4, 0, 5] rfl (b_X2_yearsOf_98 C LA17 hLA17 _ _ _ _ _ _ _ _ _ b1 b2 hw)
theorem s_X2_yearsOf_17 {G : gT} {l : Launch} {V : Hp → Nat → Nat → Nat → List (Nat × Value) → List Value → Prop} {mc ms : Nat} {Q : Option Nat → Hp → Prop} (C : Cx G l V cX2_yearsOf 6 RX2 10 213 mc ms (pR Q) none (some (.object "java/util/BitSet")) [] false) (LA17 : Hp → Nat → Nat → Nat → Int32 → Int32 → Nat → Bool → Int32 → Prop) (hLA17 : ∀ (h : Hp) (c : Nat) (n : Nat) (x0 : Nat) (x1 : Int32) (x2 : Int32) (x3 : Nat) (x4 : Bool) (x5 : Int32), c ≤ mc → n ≤ ms → LA17 h c n x0 x1 x2 x3 x4 x5 → V h c n 17 [(0, .ref x0), (1, .int x1), (2, .int x2), (3, .ref x3), (4, .int (bI x4)), (5, .int x5)] []) (h : Hp) (c : Nat) (n : Nat) (x0 : Nat) (x1 : Int32) (x2 : Int32) (x3 : Nat) (x4 : Bool) (x5 : Int32) (b1 : c ≤ mc) (b2 : n ≤ ms) (hw : S_X2_yearsOf_17 mc ms Q LA17 h c n x0 x1 x2 x3 x4 x5) : V h c n 17 [(0, .ref x0), (1, .int x1), (2, .int x2), (3, .ref x3), (4, .int (bI x4)), (5, .int x5)] [] := by
  unfold S_X2_yearsOf_17 at hw
  refine r_iload C 5 rfl dX2_yearsOf_17 (r_aload_n C rfl 0 rfl dX2_yearsOf_19 ?_)
  refine r_gfR (k := 2) C kX2 (by decide) (Or.inl q305) (Or.inl rfl) dX2_yearsOf_20 hw (fun v1 hw => ?_)
  obtain ⟨y2, rfl, hw_y2⟩ := hw
  have hw := hw_y2
  obtain ⟨hq3, hw⟩ := hw
  refine r_callF (ci := 8) (rest := [.int x5]) (As := []) C (x := ⟨"java/util/List", "size", "()I"⟩) (show ySg ⟨"java/util/List", "size", "()I"⟩ 0 = true by decide +kernel) rfl q411 q414 q416 q81 q418 (List.mem_of_getElem? (i := 2) rfl) rfl (Nat.le_of_ble_eq_true rfl) dX2_yearsOf_23 rfl hq3 b1 b2 (cj_J2_size G l y2 h _ hw) (k_I (fun r4 h5 hw => ?_))
  refine r_icmp_ge (tgt := 104) C (by decide) dX2_yearsOf_28 (fun hc6 => ?_) (fun hc6 => ?_)
  · have hw := hw.1 hc6
    refine r_aload_n C rfl 3 rfl dX2_yearsOf_104 ?_
    exact r_areturn (x := some x3) C (by first | exact Or.inl ⟨_, rfl⟩ | exact Or.inr ⟨_, rfl⟩) dX2_yearsOf_105 b1 b2 ⟨_, rfl, hw⟩
  · have hw := hw.2 hc6
    refine r_iload C 5 rfl dX2_yearsOf_31 (r_iload_n C rfl 2 rfl dX2_yearsOf_33 ?_)
    refine r_icmp_eq (tgt := 98) C (by decide) dX2_yearsOf_34 (fun hc7 => ?_) (fun hc7 => ?_)
    · have hw := hw.1 hc7
      exact r_sub C [0, 1, 2, 3, 4, 5] rfl (b_X2_yearsOf_98 C LA17 hLA17 _ _ _ _ _ _ _ _ _ b1 b2 hw)
    · have hw := hw.2 hc7
      refine r_aload_n C rfl 0 rfl dX2_yearsOf_37 ?_
      refine r_gfR (k := 2) C kX2 (by decide) (Or.inl q305) (Or.inl rfl) dX2_yearsOf_38 hw (fun v8 hw => ?_)
      refine r_iload C 5 rfl dX2_yearsOf_41 ?_
      obtain ⟨y9, rfl, hw_y9⟩ := hw
      have hw := hw_y9
      obtain ⟨hq10, hw⟩ := hw
      refine r_callF (ci := 8) (rest := []) (As := [.int x5]) C (x := ⟨"java/util/List", "get", "(I)Ljava/lang/Object;"⟩) (show ySg ⟨"java/util/List", "get", "(I)Ljava/lang/Object;"⟩ 1 = true by decide +kernel) rfl q450 q453 q455 q81 q457 (List.mem_of_getElem? (i := 6) rfl) rfl (Nat.le_of_ble_eq_true rfl) dX2_yearsOf_43 rfl hq10 b1 b2 (cj_J2_get G l y9 x5 h5 _ hw) (k_R (fun r11 h12 hw => ?_))
      obtain ⟨e14, hw⟩ := hw
      refine r_cast (x := r11) C (ci := 5) rfl q992 dX2_yearsOf_48 e14 ?_
      obtain ⟨y15, rfl, hw_y15⟩ := hw
      have hw := hw_y15
      refine r_gfI (k := 5) C kX6 (by decide) (Or.inr ⟨_, (List.mem_of_getElem? (i := 39) rfl)⟩) (Or.inl rfl) dX2_yearsOf_51 hw (fun v16 hw => ?_)
      refine r_iload_n C rfl 1 rfl dX2_yearsOf_54 ?_
      refine r_icmp_ne (tgt := 98) C (by decide) dX2_yearsOf_55 (fun hc17 => ?_) (fun hc17 => ?_)
      · have hw := hw.1 hc17
        exact r_sub C [0, 1, 2, 3, 4, 5] rfl (b_X2_yearsOf_98 C LA17 hLA17 _ _ _ _ _ _ _ _ _ b1 b2 hw)
      · have hw := hw.2 hc17
        refine r_aload_n C rfl 0 rfl dX2_yearsOf_58 (r_iload C 5 rfl dX2_yearsOf_59 ?_)
        obtain ⟨hq18, hw⟩ := hw
        obtain ⟨k21, k22, hp23, hp24, hw⟩ := hw
        refine r_callV (ci := 1) (rest := []) (As := [.int x5]) C sg_X2_alone rfl rfl q1416 q1418 qs24 q78 q1419 rfl (Nat.le_of_ble_eq_true rfl) dX2_yearsOf_61 rfl hq18 hp23 hp24 (c_X2_alone G l k21 k22 x0 x5 h12 _ hw) (k_I (fun r19 h20 hw => ?_))
        refine r_if_ne (tgt := 98) C (by decide) dX2_yearsOf_64 (fun hc25 => ?_) (fun hc25 => ?_)
        · have hw := hw.1 hc25
          exact r_sub C [0, 1, 2, 3, 4, 5] rfl (b_X2_yearsOf_98 C LA17 hLA17 _ _ _ _ _ _ _ _ _ hp23 hp24 hw)
        · have hw := hw.2 hc25
          refine r_iload C 4 rfl dX2_yearsOf_67 ?_
          refine r_if_eq_b (tgt := 85) C (by decide) dX2_yearsOf_69 (fun hc26 => ?_) (fun hc26 => ?_)
          · have hw := hw.1 hc26
            refine r_aload_n C rfl 3 rfl dX2_yearsOf_85 (r_aload_n C rfl 0 rfl dX2_yearsOf_86 (r_iload C 5 rfl dX2_yearsOf_87 ?_))
            obtain ⟨hq27, hw⟩ := hw
            obtain ⟨k30, k31, hp32, hp33, hw⟩ := hw
            refine r_callV (ci := 1) (rest := [.ref x3]) (As := [.int x5]) C sg_X2_possible rfl rfl q1424 q1425 q1426 q78 q1427 rfl (Nat.le_of_ble_eq_true rfl) dX2_yearsOf_89 rfl hq27 hp32 hp33 (c_X2_possible G l k30 k31 x0 x5 h20 _ hw) (k_R (fun r28 h29 hw => ?_))
            obtain ⟨y34, rfl, hw_y34⟩ := hw
            have hw := hw_y34
            obtain ⟨hq35, hw⟩ := hw
            refine r_callV (ci := 15) (rest := []) (As := [.ref y34]) C sg_J30_or rfl rfl q1522 q1523 q1524 q116 q1525 rfl (Nat.le_of_ble_eq_true rfl) dX2_yearsOf_92 rfl hq35 hp32 hp33 (cj_J30_or G l x3 y34 h29 _ hw) (k_V (fun h37 hw => ?_))
            exact r_sub C [0, 1, 2, 3, 5] rfl (b_X2_yearsOf_95 C LA17 hLA17 _ _ _ _ _ _ _ _ hp32 hp33 hw)
          · have hw := hw.2 hc26
            refine r_aload_n C rfl 3 rfl dX2_yearsOf_72 (r_aload_n C rfl 0 rfl dX2_yearsOf_73 (r_iload C 5 rfl dX2_yearsOf_74 ?_))
            obtain ⟨hq38, hw⟩ := hw
            obtain ⟨k41, k42, hp43, hp44, hw⟩ := hw
            refine r_callV (ci := 1) (rest := [.ref x3]) (As := [.int x5]) C sg_X2_possible rfl rfl q1424 q1425 q1426 q78 q1427 rfl (Nat.le_of_ble_eq_true rfl) dX2_yearsOf_76 rfl hq38 hp43 hp44 (c_X2_possible G l k41 k42 x0 x5 h20 _ hw) (k_R (fun r39 h40 hw => ?_))
            obtain ⟨y45, rfl, hw_y45⟩ := hw
            have hw := hw_y45
            obtain ⟨hq46, hw⟩ := hw
            refine r_callV (ci := 15) (rest := []) (As := [.ref y45]) C sg_J30_and rfl rfl q1514 q1515 q1516 q116 q1517 rfl (Nat.le_of_ble_eq_true rfl) dX2_yearsOf_79 rfl hq46 hp43 hp44 (cj_J30_and G l x3 y45 h40 _ hw) (k_V (fun h48 hw => ?_))
            refine r_goto (tgt := 95) C (by decide) dX2_yearsOf_82 ?_
            exact r_sub C [0, 1, 2, 3, 5] rfl (b_X2_yearsOf_95 C LA17 hLA17 _ _ _ _ _ _ _ _ hp43 hp44 hw)
theorem b_X2_yearsOf_17 {G : gT} {l : Launch} {V : Hp → Nat → Nat → Nat → List (Nat × Value) → List Value → Prop} {mc ms : Nat} {Q : Option Nat → Hp → Prop} (C : Cx G l V cX2_yearsOf 6 RX2 10 213 mc ms (pR Q) none (some (.object "java/util/BitSet")) [] false) : ∀ (k : Nat) (h : Hp) (c : Nat) (n : Nat) (x0 : Nat) (x1 : Int32) (x2 : Int32) (x3 : Nat) (x4 : Bool) (x5 : Int32), c ≤ mc → n ≤ ms → B_X2_yearsOf_17 mc ms Q k h c n x0 x1 x2 x3 x4 x5 → V h c n 17 [(0, .ref x0), (1, .int x1), (2, .int x2), (3, .ref x3), (4, .int (bI x4)), (5, .int x5)] [] := by
  intro k
  induction k with
  | zero =>
    intro h c n x0 x1 x2 x3 x4 x5 b1 b2 hw
    exact hw.elim
  | succ k ih =>
    intro h c n x0 x1 x2 x3 x4 x5 b1 b2 hw
    exact s_X2_yearsOf_17 C _ (fun h c n x0 x1 x2 x3 x4 x5 b1 b2 hw => ih h c n x0 x1 x2 x3 x4 x5 b1 b2 hw) h c n x0 x1 x2 x3 x4 x5 b1 b2 hw
theorem sg_X2_yearsOf : ySg yX2_yearsOf 2 = true := by decide +kernel
theorem c_X2_yearsOf (G : gT) (l : Launch) (mc ms : Nat) (a0 : Nat) (i1 : Int32) (i2 : Int32) (h : Hp) (Q : Option Nat → Hp → Prop) (hw : w_X2_yearsOf mc ms a0 i1 i2 h Q) : Ct G l yX2_yearsOf (ws_ yX2_yearsOf cX2_yearsOf 6 (some (.object "java/util/BitSet"))) 10 213 mc ms [.ref a0, .int i1, .int i2] h (pR Q) := by
  refine Ct.of (own := RX2) false (by decide +kernel) rfl (show (_ : Nat) ≤ _ from Nat.le_of_ble_eq_true rfl) (fun z => by cases z) (fun V C => ?_)
  show V h 0 0 0 [(0, .ref a0), (1, .int i1), (2, .int i2)] []
  unfold w_X2_yearsOf at hw
  obtain ⟨hp49, hp50, hw⟩ := hw
  refine r_new C kJ30 q1391 q1392 q116 df_15 dX2_yearsOf_0 hp49 hp50 hw (fun q51 h52 hw => ?_)
  refine r_dup C rfl dX2_yearsOf_3 (r_sipush (v := (1000 : Int32)) C (by decide) dX2_yearsOf_4 ?_)
  obtain ⟨k55, k56, hp57, hp58, hw⟩ := hw
  refine r_callI (rest := [.ref q51]) (As := [.int (1000 : Int32)]) C sg_J30_init rfl q1393 q1394 q116 q1395 rfl (Nat.le_of_ble_eq_true rfl) dX2_yearsOf_7 rfl hp57 hp58 (cj_J30_init G l k55 k56 q51 (1000 : Int32) h52 _ hw) (k_V (fun h54 hw => ?_))
  refine r_astore_n (L' := [(3, .ref q51), (0, .ref a0), (1, .int i1), (2, .int i2)]) C rfl (by decide) rfl dX2_yearsOf_10 (r_iconst (v := (0 : Int32)) C (by decide) dX2_yearsOf_11 (r_istore (L' := [(4, .int (0 : Int32)), (3, .ref q51), (0, .ref a0), (1, .int i1), (2, .int i2)]) C (by decide) rfl dX2_yearsOf_12 (r_iconst (v := (0 : Int32)) C (by decide) dX2_yearsOf_14 (r_istore (L' := [(5, .int (0 : Int32)), (4, .int (0 : Int32)), (3, .ref q51), (0, .ref a0), (1, .int i1), (2, .int i2)]) C (by decide) rfl dX2_yearsOf_15 ?_))))
  obtain ⟨k9, hw⟩ := hw
  exact r_sub C [3, 4, 5, 2, 1, 0] rfl (b_X2_yearsOf_17 C _ _ _ _ _ _ _ _ _ _ hp57 hp58 hw)
def B_X2_fakes_105 (mc ms : Nat) (Q : Option Nat → Hp → Prop) (LA45 : Hp → Nat → Nat → Nat → Nat → Nat → Int32 → Prop) (h : Hp) (c : Nat) (n : Nat) (x0 : Nat) (x1 : Nat) (x2 : Nat) (x3 : Int32) (s0 : Nat) (s1 : Int32) (s2 : Int32) : Prop :=
  wrI h s0 s1 s2 (fun h50 => LA45 h50 c n x0 x1 x2 (x3 + (1 : Int32)))
def B_X2_fakes_102 (mc ms : Nat) (Q : Option Nat → Hp → Prop) (LA45 : Hp → Nat → Nat → Nat → Nat → Nat → Int32 → Prop) (h : Hp) (c : Nat) (n : Nat) (x0 : Nat) (x1 : Nat) (x2 : Nat) (x3 : Int32) (s0 : Nat) (s1 : Int32) : Prop :=
  rdI h x2 x3 (fun v49 => B_X2_fakes_105 mc ms Q LA45 h c n x0 x1 x2 x3 s0 s1 v49)
def S_X2_fakes_45 (mc ms : Nat) (Q : Option Nat → Hp → Prop) (LA45 : Hp → Nat → Nat → Nat → Nat → Nat → Int32 → Prop) (h : Hp) (c : Nat) (n : Nat) (x0 : Nat) (x1 : Nat) (x2 : Nat) (x3 : Int32) : Prop :=
  alen h x2 (fun v25 => (v25 ≤ x3 → Q (some x2) h) ∧ (¬ v25 ≤ x3 → gfR h x0 1 2 (fun v27 => nn v27 (fun y28 => hasC h y28 8 ∧ (wj_J2_get y28 x3 h (fun r30 h31 => (∀ z32 : Nat, r30 = some z32 → hasC h31 z32 5) ∧ (nn r30 (fun y34 => gfI h31 y34 5 5 (fun v35 => hasC h31 x0 1 ∧ (∃ k39 k40 : Nat, c + k39 ≤ mc ∧ n + k40 ≤ ms ∧ (w_X2_alone k39 k40 x0 x3 h31 (fun r37 h38 => wrI h38 x2 x3 r37 (fun h43 => rdI h43 x2 x3 (fun v44 => (¬ v44 = 0 → B_X2_fakes_102 mc ms Q LA45 h43 (c + k39) (n + k40) x0 x1 x2 x3 x2 x3) ∧ (v44 = 0 → (v35 = (-1 : Int32) → B_X2_fakes_102 mc ms Q LA45 h43 (c + k39) (n + k40) x0 x1 x2 x3 x2 x3) ∧ (¬ v35 = (-1 : Int32) → rdZ h43 x1 v35 (fun v47 => (v47 = false → B_X2_fakes_102 mc ms Q LA45 h43 (c + k39) (n + k40) x0 x1 x2 x3 x2 x3) ∧ (v47 = true → B_X2_fakes_105 mc ms Q LA45 h43 (c + k39) (n + k40) x0 x1 x2 x3 x2 x3 (4 : Int32)))))))))))))))))))
def B_X2_fakes_45 (mc ms : Nat) (Q : Option Nat → Hp → Prop) : Nat → Hp → Nat → Nat → Nat → Nat → Nat → Int32 → Prop
  | 0, _, _, _, _, _, _, _ => False
  | k + 1, h, c, n, x0, x1, x2, x3 => S_X2_fakes_45 mc ms Q (B_X2_fakes_45 mc ms Q k) h c n x0 x1 x2 x3
def S_X2_fakes_7 (mc ms : Nat) (Q : Option Nat → Hp → Prop) (LA7 : Hp → Nat → Nat → Nat → Nat → Int32 → Prop) (h : Hp) (c : Nat) (n : Nat) (x0 : Nat) (x1 : Nat) (x2 : Int32) : Prop :=
  ((6 : Int32) ≤ x2 → gfR h x0 1 2 (fun v2 => nn v2 (fun y3 => hasC h y3 8 ∧ (wj_J2_size y3 h (fun r5 h6 => ¬ r5 < 0 ∧ r5.toNatClampNeg ≤ 60000 ∧ (c + 1 ≤ mc ∧ n + r5.toNatClampNeg ≤ ms ∧ (nwA h6 0 (r5.toNatClampNeg, .inl (fun _ => 0)) (fun q11 h12 => ∃ k9 : Nat, B_X2_fakes_45 mc ms Q k9 h12 (c + 1) (n + r5.toNatClampNeg) x0 x1 q11 (0 : Int32))))))))) ∧ (¬ (6 : Int32) ≤ x2 → hasC h x0 1 ∧ (∃ k16 k17 : Nat, c + k16 ≤ mc ∧ n + k17 ≤ ms ∧ (w_X2_yearsOf k16 k17 x0 x2 (-1 : Int32) h (fun r14 h15 => nn r14 (fun y20 => hasC h15 y20 15 ∧ (wj_J30_isEmpty y20 h15 (fun r22 h23 => wrZ h23 x1 x2 r22 (fun h24 => LA7 h24 (c + k16) (n + k17) x0 x1 (x2 + (1 : Int32))))))))))
def B_X2_fakes_7 (mc ms : Nat) (Q : Option Nat → Hp → Prop) : Nat → Hp → Nat → Nat → Nat → Nat → Int32 → Prop
  | 0, _, _, _, _, _, _ => False
  | k + 1, h, c, n, x0, x1, x2 => S_X2_fakes_7 mc ms Q (B_X2_fakes_7 mc ms Q k) h c n x0 x1 x2
def w_X2_fakes (mc ms : Nat) (a0 : Nat) (h : Hp) (Q : Option Nat → Hp → Prop) : Prop :=
  0 + 1 ≤ mc ∧ 0 + 6 ≤ ms ∧ (nwA h 5 (6, .inl (fun _ => bI false)) (fun q53 h54 => ∃ k9 : Nat, B_X2_fakes_7 mc ms Q k9 h54 (0 + 1) (0 + 6) a0 q53 (0 : Int32)))
theorem b_X2_fakes_105 {G : gT} {l : Launch} {V : Hp → Nat → Nat → Nat → List (Nat × Value) → List Value → Prop} {mc ms : Nat} {Q : Option Nat → Hp → Prop} (C : Cx G l V cX2_fakes 5 RX2 11 238 mc ms (pR Q) none (some (.array .int)) [] false) (LA45 : Hp → Nat → Nat → Nat → Nat → Nat → Int32 → Prop) (hLA45 : ∀ (h : Hp) (c : Nat) (n : Nat) (x0 : Nat) (x1 : Nat) (x2 : Nat) (x3 : Int32), c ≤ mc → n ≤ ms → LA45 h c n x0 x1 x2 x3 → V h c n 45 [(0, .ref x0), (1, .ref x1), (2, .ref x2), (3, .int x3)] []) (h : Hp) (c : Nat) (n : Nat) (x0 : Nat) (x1 : Nat) (x2 : Nat) (x3 : Int32) (s0 : Nat) (s1 : Int32) (s2 : Int32) (b1 : c ≤ mc) (b2 : n ≤ ms) (hw : B_X2_fakes_105 mc ms Q LA45 h c n x0 x1 x2 x3 s0 s1 s2) : V h c n 105 [(0, .ref x0), (1, .ref x1), (2, .ref x2), (3, .int x3)] [.int s2, .int s1, .ref s0] := by
  unfold B_X2_fakes_105 at hw
  refine r_iastore C dX2_fakes_105 hw (fun h50 hw => ?_)
  refine r_iinc (v := x3 + (1 : Int32)) (L' := [(3, .int (x3 + (1 : Int32))), (0, .ref x0), (1, .ref x1), (2, .ref x2)]) C (u := 3) rfl (by rfl) (by decide) rfl dX2_fakes_106 (r_goto (tgt := 45) C (by decide) dX2_fakes_109 ?_)
  exact r_sub C [1, 2, 3, 0] rfl (hLA45 _ _ _ _ _ _ _ b1 b2 hw)
theorem b_X2_fakes_102 {G : gT} {l : Launch} {V : Hp → Nat → Nat → Nat → List (Nat × Value) → List Value → Prop} {mc ms : Nat} {Q : Option Nat → Hp → Prop} (C : Cx G l V cX2_fakes 5 RX2 11 238 mc ms (pR Q) none (some (.array .int)) [] false) (LA45 : Hp → Nat → Nat → Nat → Nat → Nat → Int32 → Prop) (hLA45 : ∀ (h : Hp) (c : Nat) (n : Nat) (x0 : Nat) (x1 : Nat) (x2 : Nat) (x3 : Int32), c ≤ mc → n ≤ ms → LA45 h c n x0 x1 x2 x3 → V h c n 45 [(0, .ref x0), (1, .ref x1), (2, .ref x2), (3, .int x3)] []) (h : Hp) (c : Nat) (n : Nat) (x0 : Nat) (x1 : Nat) (x2 : Nat) (x3 : Int32) (s0 : Nat) (s1 : Int32) (b1 : c ≤ mc) (b2 : n ≤ ms) (hw : B_X2_fakes_102 mc ms Q LA45 h c n x0 x1 x2 x3 s0 s1) : V h c n 102 [(0, .ref x0), (1, .ref x1), (2, .ref x2), (3, .int x3)] [.int s1, .ref s0] := by
  unfold B_X2_fakes_102 at hw
  refine r_aload_n C rfl 2 rfl dX2_fakes_102 (r_iload_n C rfl 3 rfl dX2_fakes_103 ?_)
  refine r_iaload C dX2_fakes_104 hw (fun v49 hw => ?_)
  exact r_sub C [0, 1, 2, 3] rfl (b_X2_fakes_105 C LA45 hLA45 _ _ _ _ _ _ _ _ _ _ b1 b2 hw)
theorem s_X2_fakes_45 {G : gT} {l : Launch} {V : Hp → Nat → Nat → Nat → List (Nat × Value) → List Value → Prop} {mc ms : Nat} {Q : Option Nat → Hp → Prop} (C : Cx G l V cX2_fakes 5 RX2 11 238 mc ms (pR Q) none (some (.array .int)) [] false) (LA45 : Hp → Nat → Nat → Nat → Nat → Nat → Int32 → Prop) (hLA45 : ∀ (h : Hp) (c : Nat) (n : Nat) (x0 : Nat) (x1 : Nat) (x2 : Nat) (x3 : Int32), c ≤ mc → n ≤ ms → LA45 h c n x0 x1 x2 x3 → V h c n 45 [(0, .ref x0), (1, .ref x1), (2, .ref x2), (3, .int x3)] []) (h : Hp) (c : Nat) (n : Nat) (x0 : Nat) (x1 : Nat) (x2 : Nat) (x3 : Int32) (b1 : c ≤ mc) (b2 : n ≤ ms) (hw : S_X2_fakes_45 mc ms Q LA45 h c n x0 x1 x2 x3) : V h c n 45 [(0, .ref x0), (1, .ref x1), (2, .ref x2), (3, .int x3)] [] := by
  unfold S_X2_fakes_45 at hw
  refine r_iload_n C rfl 3 rfl dX2_fakes_45 (r_aload_n C rfl 2 rfl dX2_fakes_46 ?_)
  refine r_alen C dX2_fakes_47 hw (fun v25 hw => ?_)
  refine r_icmp_ge (tgt := 112) C (by decide) dX2_fakes_48 (fun hc26 => ?_) (fun hc26 => ?_)
  · have hw := hw.1 hc26
    refine r_aload_n C rfl 2 rfl dX2_fakes_112 ?_
    exact r_areturn (x := some x2) C (by first | exact Or.inl ⟨_, rfl⟩ | exact Or.inr ⟨_, rfl⟩) dX2_fakes_113 b1 b2 ⟨_, rfl, hw⟩
  · have hw := hw.2 hc26
    refine r_aload_n C rfl 0 rfl dX2_fakes_51 ?_
    refine r_gfR (k := 2) C kX2 (by decide) (Or.inl q305) (Or.inl rfl) dX2_fakes_52 hw (fun v27 hw => ?_)
    refine r_iload_n C rfl 3 rfl dX2_fakes_55 ?_
    obtain ⟨y28, rfl, hw_y28⟩ := hw
    have hw := hw_y28
    obtain ⟨hq29, hw⟩ := hw
    refine r_callF (ci := 8) (rest := []) (As := [.int x3]) C (x := ⟨"java/util/List", "get", "(I)Ljava/lang/Object;"⟩) (show ySg ⟨"java/util/List", "get", "(I)Ljava/lang/Object;"⟩ 1 = true by decide +kernel) rfl q450 q453 q455 q81 q457 (List.mem_of_getElem? (i := 6) rfl) rfl (Nat.le_of_ble_eq_true rfl) dX2_fakes_56 rfl hq29 b1 b2 (cj_J2_get G l y28 x3 h _ hw) (k_R (fun r30 h31 hw => ?_))
    obtain ⟨e33, hw⟩ := hw
    refine r_cast (x := r30) C (ci := 5) rfl q992 dX2_fakes_61 e33 ?_
    obtain ⟨y34, rfl, hw_y34⟩ := hw
    have hw := hw_y34
    refine r_gfI (k := 5) C kX6 (by decide) (Or.inr ⟨_, (List.mem_of_getElem? (i := 39) rfl)⟩) (Or.inl rfl) dX2_fakes_64 hw (fun v35 hw => ?_)
    refine r_istore (L' := [(4, .int v35), (0, .ref x0), (1, .ref x1), (2, .ref x2), (3, .int x3)]) C (by decide) rfl dX2_fakes_67 (r_aload_n C rfl 3 rfl dX2_fakes_69 (r_iload_n C rfl 4 rfl dX2_fakes_70 (r_aload_n C rfl 1 rfl dX2_fakes_71 (r_iload_n C rfl 4 rfl dX2_fakes_72 ?_))))
    obtain ⟨hq36, hw⟩ := hw
    obtain ⟨k39, k40, hp41, hp42, hw⟩ := hw
    refine r_callV (ci := 1) (rest := [.int x3, .ref x2]) (As := [.int x3]) C sg_X2_alone rfl rfl q1416 q1418 qs24 q78 q1419 rfl (Nat.le_of_ble_eq_true rfl) dX2_fakes_73 rfl hq36 hp41 hp42 (c_X2_alone G l k39 k40 x0 x3 h31 _ hw) (k_I (fun r37 h38 hw => ?_))
    refine r_iastore C dX2_fakes_76 hw (fun h43 hw => ?_)
    refine r_aload_n C rfl 3 rfl dX2_fakes_77 (r_iload_n C rfl 4 rfl dX2_fakes_78 (r_aload_n C rfl 3 rfl dX2_fakes_79 (r_iload_n C rfl 4 rfl dX2_fakes_80 ?_)))
    refine r_iaload C dX2_fakes_81 hw (fun v44 hw => ?_)
    refine r_if_ne (tgt := 102) C (by decide) dX2_fakes_82 (fun hc45 => ?_) (fun hc45 => ?_)
    · have hw := hw.1 hc45
      exact r_sub C [1, 2, 3, 4] rfl (b_X2_fakes_102 C LA45 hLA45 _ _ _ _ _ _ _ _ _ hp41 hp42 hw)
    · have hw := hw.2 hc45
      refine r_iload C 0 rfl dX2_fakes_85 (r_iconst (v := (-1 : Int32)) C (by decide) dX2_fakes_87 ?_)
      refine r_icmp_eq (tgt := 102) C (by decide) dX2_fakes_88 (fun hc46 => ?_) (fun hc46 => ?_)
      · have hw := hw.1 hc46
        exact r_sub C [1, 2, 3, 4] rfl (b_X2_fakes_102 C LA45 hLA45 _ _ _ _ _ _ _ _ _ hp41 hp42 hw)
      · have hw := hw.2 hc46
        refine r_aload_n C rfl 2 rfl dX2_fakes_91 (r_iload C 0 rfl dX2_fakes_92 ?_)
        refine r_baload C dX2_fakes_94 hw (fun v47 hw => ?_)
        refine r_if_eq_b (tgt := 102) C (by decide) dX2_fakes_95 (fun hc48 => ?_) (fun hc48 => ?_)
        · have hw := hw.1 hc48
          exact r_sub C [1, 2, 3, 4] rfl (b_X2_fakes_102 C LA45 hLA45 _ _ _ _ _ _ _ _ _ hp41 hp42 hw)
        · have hw := hw.2 hc48
          refine r_iconst (v := (4 : Int32)) C (by decide) dX2_fakes_98 (r_goto (tgt := 105) C (by decide) dX2_fakes_99 ?_)
          exact r_sub C [1, 2, 3, 4] rfl (b_X2_fakes_105 C LA45 hLA45 _ _ _ _ _ _ _ _ _ _ hp41 hp42 hw)
theorem b_X2_fakes_45 {G : gT} {l : Launch} {V : Hp → Nat → Nat → Nat → List (Nat × Value) → List Value → Prop} {mc ms : Nat} {Q : Option Nat → Hp → Prop} (C : Cx G l V cX2_fakes 5 RX2 11 238 mc ms (pR Q) none (some (.array .int)) [] false) : ∀ (k : Nat) (h : Hp) (c : Nat) (n : Nat) (x0 : Nat) (x1 : Nat) (x2 : Nat) (x3 : Int32), c ≤ mc → n ≤ ms → B_X2_fakes_45 mc ms Q k h c n x0 x1 x2 x3 → V h c n 45 [(0, .ref x0), (1, .ref x1), (2, .ref x2), (3, .int x3)] [] := by
  intro k
  induction k with
  | zero =>
    intro h c n x0 x1 x2 x3 b1 b2 hw
    exact hw.elim
  | succ k ih =>
    intro h c n x0 x1 x2 x3 b1 b2 hw
    exact s_X2_fakes_45 C _ (fun h c n x0 x1 x2 x3 b1 b2 hw => ih h c n x0 x1 x2 x3 b1 b2 hw) h c n x0 x1 x2 x3 b1 b2 hw
theorem s_X2_fakes_7 {G : gT} {l : Launch} {V : Hp → Nat → Nat → Nat → List (Nat × Value) → List Value → Prop} {mc ms : Nat} {Q : Option Nat → Hp → Prop} (C : Cx G l V cX2_fakes 5 RX2 11 238 mc ms (pR Q) none (some (.array .int)) [] false) (LA7 : Hp → Nat → Nat → Nat → Nat → Int32 → Prop) (hLA7 : ∀ (h : Hp) (c : Nat) (n : Nat) (x0 : Nat) (x1 : Nat) (x2 : Int32), c ≤ mc → n ≤ ms → LA7 h c n x0 x1 x2 → V h c n 7 [(0, .ref x0), (1, .ref x1), (2, .int x2)] []) (h : Hp) (c : Nat) (n : Nat) (x0 : Nat) (x1 : Nat) (x2 : Int32) (b1 : c ≤ mc) (b2 : n ≤ ms) (hw : S_X2_fakes_7 mc ms Q LA7 h c n x0 x1 x2) : V h c n 7 [(0, .ref x0), (1, .ref x1), (2, .int x2)] [] := by
  unfold S_X2_fakes_7 at hw
  refine r_iload_n C rfl 2 rfl dX2_fakes_7 (r_bipush (v := (6 : Int32)) C (by decide) dX2_fakes_8 ?_)
  refine r_icmp_ge (tgt := 31) C (by decide) dX2_fakes_10 (fun hc1 => ?_) (fun hc1 => ?_)
  · have hw := hw.1 hc1
    refine r_aload_n C rfl 0 rfl dX2_fakes_31 ?_
    refine r_gfR (k := 2) C kX2 (by decide) (Or.inl q305) (Or.inl rfl) dX2_fakes_32 hw (fun v2 hw => ?_)
    obtain ⟨y3, rfl, hw_y3⟩ := hw
    have hw := hw_y3
    obtain ⟨hq4, hw⟩ := hw
    refine r_callF (ci := 8) (rest := []) (As := []) C (x := ⟨"java/util/List", "size", "()I"⟩) (show ySg ⟨"java/util/List", "size", "()I"⟩ 0 = true by decide +kernel) rfl q411 q414 q416 q81 q418 (List.mem_of_getElem? (i := 2) rfl) rfl (Nat.le_of_ble_eq_true rfl) dX2_fakes_35 rfl hq4 b1 b2 (cj_J2_size G l y3 h _ hw) (k_I (fun r5 h6 hw => ?_))
    obtain ⟨hz7, hz8, hw⟩ := hw
    obtain ⟨hp9, hp10, hw⟩ := hw
    refine r_newa (atype := .int) (N := r5.toNatClampNeg) (t := 0) C q190 (by decide) rfl (fun _ z => by cases z) (fun cA => rfl) hz7 rfl hz8 dX2_fakes_40 hp9 hp10 hw (fun q11 h12 hw => ?_)
    refine r_astore_n (L' := [(2, .ref q11), (0, .ref x0), (1, .ref x1)]) C rfl (by decide) rfl dX2_fakes_42 (r_iconst (v := (0 : Int32)) C (by decide) dX2_fakes_43 (r_istore_n (L' := [(3, .int (0 : Int32)), (2, .ref q11), (0, .ref x0), (1, .ref x1)]) C rfl (by decide) rfl dX2_fakes_44 ?_))
    obtain ⟨k9, hw⟩ := hw
    exact r_sub C [2, 3, 1, 0] rfl (b_X2_fakes_45 C _ _ _ _ _ _ _ _ hp9 hp10 hw)
  · have hw := hw.2 hc1
    refine r_aload_n C rfl 1 rfl dX2_fakes_13 (r_iload_n C rfl 2 rfl dX2_fakes_14 (r_aload_n C rfl 0 rfl dX2_fakes_15 (r_iload_n C rfl 2 rfl dX2_fakes_16 (r_iconst (v := (-1 : Int32)) C (by decide) dX2_fakes_17 ?_))))
    obtain ⟨hq13, hw⟩ := hw
    obtain ⟨k16, k17, hp18, hp19, hw⟩ := hw
    refine r_callV (ci := 1) (rest := [.int x2, .ref x1]) (As := [.int x2, .int (-1 : Int32)]) C sg_X2_yearsOf rfl rfl q1387 q1388 q1389 q78 q1390 rfl (Nat.le_of_ble_eq_true rfl) dX2_fakes_18 rfl hq13 hp18 hp19 (c_X2_yearsOf G l k16 k17 x0 x2 (-1 : Int32) h _ hw) (k_R (fun r14 h15 hw => ?_))
    obtain ⟨y20, rfl, hw_y20⟩ := hw
    have hw := hw_y20
    obtain ⟨hq21, hw⟩ := hw
    refine r_callV (ci := 15) (rest := [.int x2, .ref x1]) (As := []) C sg_J30_isEmpty rfl rfl q1510 q1511 q1512 q116 q1513 rfl (Nat.le_of_ble_eq_true rfl) dX2_fakes_21 rfl hq21 hp18 hp19 (cj_J30_isEmpty G l y20 h15 _ hw) (k_Z (fun r22 h23 hw => ?_))
    refine r_bastore (x := r22) C dX2_fakes_24 hw (fun h24 hw => ?_)
    refine r_iinc (v := x2 + (1 : Int32)) (L' := [(2, .int (x2 + (1 : Int32))), (0, .ref x0), (1, .ref x1)]) C (u := 2) rfl (by rfl) (by decide) rfl dX2_fakes_25 (r_goto (tgt := 7) C (by decide) dX2_fakes_28 ?_)
    exact r_sub C [1, 2, 0] rfl (hLA7 _ _ _ _ _ _ hp18 hp19 hw)
theorem b_X2_fakes_7 {G : gT} {l : Launch} {V : Hp → Nat → Nat → Nat → List (Nat × Value) → List Value → Prop} {mc ms : Nat} {Q : Option Nat → Hp → Prop} (C : Cx G l V cX2_fakes 5 RX2 11 238 mc ms (pR Q) none (some (.array .int)) [] false) : ∀ (k : Nat) (h : Hp) (c : Nat) (n : Nat) (x0 : Nat) (x1 : Nat) (x2 : Int32), c ≤ mc → n ≤ ms → B_X2_fakes_7 mc ms Q k h c n x0 x1 x2 → V h c n 7 [(0, .ref x0), (1, .ref x1), (2, .int x2)] [] := by
  intro k
  induction k with
  | zero =>
    intro h c n x0 x1 x2 b1 b2 hw
    exact hw.elim
  | succ k ih =>
    intro h c n x0 x1 x2 b1 b2 hw
    exact s_X2_fakes_7 C _ (fun h c n x0 x1 x2 b1 b2 hw => ih h c n x0 x1 x2 b1 b2 hw) h c n x0 x1 x2 b1 b2 hw
theorem sg_X2_fakes : ySg yX2_fakes 0 = true := by decide +kernel
theorem c_X2_fakes (G : gT) (l : Launch) (mc ms : Nat) (a0 : Nat) (h : Hp) (Q : Option Nat → Hp → Prop) (hw : w_X2_fakes mc ms a0 h Q) : Ct G l yX2_fakes (ws_ yX2_fakes cX2_fakes 5 (some (.array .int))) 11 238 mc ms [.ref a0] h (pR Q) := by
  refine Ct.of (own := RX2) false (by decide +kernel) rfl (show (_ : Nat) ≤ _ from Nat.le_of_ble_eq_true rfl) (fun z => by cases z) (fun V C => ?_)
  show V h 0 0 0 [(0, .ref a0)] []
  unfold w_X2_fakes at hw
  refine r_bipush (v := (6 : Int32)) C (by decide) dX2_fakes_0 ?_
  obtain ⟨hp51, hp52, hw⟩ := hw
  refine r_newa (atype := .boolean) (N := 6) (t := 5) C q1414 (by decide) rfl (fun _ z => by cases z) (fun cA => rfl) (by decide) (by decide) (by decide) dX2_fakes_2 hp51 hp52 hw (fun q53 h54 hw => ?_)
  refine r_astore_n (L' := [(1, .ref q53), (0, .ref a0)]) C rfl (by decide) rfl dX2_fakes_4 (r_iconst (v := (0 : Int32)) C (by decide) dX2_fakes_5 (r_istore_n (L' := [(2, .int (0 : Int32)), (1, .ref q53), (0, .ref a0)]) C rfl (by decide) rfl dX2_fakes_6 ?_))
  obtain ⟨k9, hw⟩ := hw
  exact r_sub C [2, 1, 0] rfl (b_X2_fakes_7 C _ _ _ _ _ _ _ hp51 hp52 hw)
def S_X2_many_14 (mc ms : Nat) (Q : Int32 → Hp → Prop) (LA14 : Hp → Nat → Nat → Int32 → Int32 → (Option Nat) → Int32 → Int32 → Prop) (h : Hp) (c : Nat) (n : Nat) (x1 : Int32) (x2 : Int32) (x3 : Option Nat) (x4 : Int32) (x5 : Int32) : Prop :=
  (x4 ≤ x5 → Q x2 h) ∧ (¬ x4 ≤ x5 → nn x3 (fun y2 => rdI h y2 x5 (fun v3 => LA14 h c n x1 (x2 + (bI (if ¬ x1 = (-1 : Int32) then (if ¬ v3 = x1 then false else true) else (if v3 ≤ 0 then false else true)))) (some y2) x4 (x5 + (1 : Int32)))))
def B_X2_many_14 (mc ms : Nat) (Q : Int32 → Hp → Prop) : Nat → Hp → Nat → Nat → Int32 → Int32 → (Option Nat) → Int32 → Int32 → Prop
  | 0, _, _, _, _, _, _, _, _ => False
  | k + 1, h, c, n, x1, x2, x3, x4, x5 => S_X2_many_14 mc ms Q (B_X2_many_14 mc ms Q k) h c n x1 x2 x3 x4 x5
def w_X2_many (mc ms : Nat) (a0 : Nat) (i1 : Int32) (h : Hp) (Q : Int32 → Hp → Prop) : Prop :=
  hasC h a0 1 ∧ (∃ k13 k14 : Nat, 0 + k13 ≤ mc ∧ 0 + k14 ≤ ms ∧ (w_X2_fakes k13 k14 a0 h (fun r11 h12 => nn r11 (fun y17 => alen h12 y17 (fun v18 => ∃ k9 : Nat, B_X2_many_14 mc ms Q k9 h12 (0 + k13) (0 + k14) i1 (0 : Int32) (some y17) v18 (0 : Int32))))))
theorem s_X2_many_14 {G : gT} {l : Launch} {V : Hp → Nat → Nat → Nat → List (Nat × Value) → List Value → Prop} {mc ms : Nat} {Q : Int32 → Hp → Prop} (C : Cx G l V cX2_many 7 RX2 12 262 mc ms (pI Q) none (some .int) [] false) (LA14 : Hp → Nat → Nat → Int32 → Int32 → (Option Nat) → Int32 → Int32 → Prop) (hLA14 : ∀ (h : Hp) (c : Nat) (n : Nat) (x1 : Int32) (x2 : Int32) (x3 : Option Nat) (x4 : Int32) (x5 : Int32), c ≤ mc → n ≤ ms → LA14 h c n x1 x2 x3 x4 x5 → V h c n 14 [(1, .int x1), (2, .int x2), (3, va_rf x3), (4, .int x4), (5, .int x5)] []) (h : Hp) (c : Nat) (n : Nat) (x1 : Int32) (x2 : Int32) (x3 : Option Nat) (x4 : Int32) (x5 : Int32) (b1 : c ≤ mc) (b2 : n ≤ ms) (hw : S_X2_many_14 mc ms Q LA14 h c n x1 x2 x3 x4 x5) : V h c n 14 [(1, .int x1), (2, .int x2), (3, va_rf x3), (4, .int x4), (5, .int x5)] [] := by
  unfold S_X2_many_14 at hw
  refine r_iload C 4 rfl dX2_many_14 (r_iload C 3 rfl dX2_many_16 ?_)
  refine r_icmp_ge (tgt := 65) C (by decide) dX2_many_18 (fun hc1 => ?_) (fun hc1 => ?_)
  · have hw := hw.1 hc1
    refine r_iload_n C rfl 1 rfl dX2_many_65 ?_
    exact r_ireturn C dX2_many_66 b1 b2 ⟨_, rfl, hw⟩
  · have hw := hw.2 hc1
    refine r_aload_nO C rfl 2 rfl dX2_many_21 (r_iload C 4 rfl dX2_many_22 ?_)
    obtain ⟨y2, rfl, hw_y2⟩ := hw
    have hw := hw_y2
    refine r_iaload C dX2_many_24 hw (fun v3 hw => ?_)
    refine r_istore (L' := [(6, .int v3), (1, .int x1), (2, .int x2), (3, .ref y2), (4, .int x4), (5, .int x5)]) C (by decide) rfl dX2_many_25 (r_iload_n C rfl 2 rfl dX2_many_27 (r_iload_n C rfl 1 rfl dX2_many_28 (r_iconst (v := (-1 : Int32)) C (by decide) dX2_many_29 ?_)))
    have hJ : V h c n 57 [(1, .int x1), (3, .ref y2), (4, .int x4), (5, .int x5)] [.int (bI (if ¬ x1 = (-1 : Int32) then (if ¬ v3 = x1 then false else true) else (if v3 ≤ 0 then false else true))), .int x2] := by
      refine r_iadd C dX2_many_57 (r_istore_n (L' := [(2, .int (x2 + (bI (if ¬ x1 = (-1 : Int32) then (if ¬ v3 = x1 then false else true) else (if v3 ≤ 0 then false else true))))), (1, .int x1), (3, .ref y2), (4, .int x4), (5, .int x5)]) C rfl (by decide) rfl dX2_many_58 (r_iinc (v := x5 + (1 : Int32)) (L' := [(5, .int (x5 + (1 : Int32))), (2, .int (x2 + (bI (if ¬ x1 = (-1 : Int32) then (if ¬ v3 = x1 then false else true) else (if v3 ≤ 0 then false else true))))), (1, .int x1), (3, .ref y2), (4, .int x4)]) C (u := 4) rfl (by rfl) (by decide) rfl dX2_many_59 (r_goto (tgt := 14) C (by decide) dX2_many_62 ?_)))
      exact r_sub C [2, 1, 3, 4, 0] rfl (hLA14 _ _ _ _ _ _ _ _ b1 b2 hw)
    refine r_icmp_ne (tgt := 46) C (by decide) dX2_many_30 (fun hc4 => ?_) (fun hc4 => ?_)
    · have hJ5 := hJ
      try simp only [if_pos hc4] at hJ5
      refine r_iload C 0 rfl dX2_many_46 (r_iload_n C rfl 1 rfl dX2_many_48 ?_)
      refine r_icmp_ne (tgt := 56) C (by decide) dX2_many_49 (fun hc6 => ?_) (fun hc6 => ?_)
      · have hJ7 := hJ5
        try simp only [if_pos hc6] at hJ7
        refine r_iconst (v := (0 : Int32)) C (by decide) dX2_many_56 ?_
        exact r_sub C [1, 3, 4, 5] rfl hJ7
      · have hJ7 := hJ5
        try simp only [if_neg (show ¬ ¬ v3 = x1 from fun z => z hc6)] at hJ7
        refine r_iconst (v := (1 : Int32)) C (by decide) dX2_many_52 (r_goto (tgt := 57) C (by decide) dX2_many_53 ?_)
        exact r_sub C [1, 3, 4, 5] rfl hJ7
    · have hJ5 := hJ
      try simp only [if_neg (show ¬ ¬ x1 = (-1 : Int32) from fun z => z hc4)] at hJ5
      refine r_iload C 0 rfl dX2_many_33 ?_
      refine r_if_le (tgt := 42) C (by decide) dX2_many_35 (fun hc8 => ?_) (fun hc8 => ?_)
      · have hJ9 := hJ5
        try simp only [if_pos hc8] at hJ9
        refine r_iconst (v := (0 : Int32)) C (by decide) dX2_many_42 (r_goto (tgt := 57) C (by decide) dX2_many_43 ?_)
        exact r_sub C [1, 3, 4, 5] rfl hJ9
      · have hJ9 := hJ5
        try simp only [if_neg hc8] at hJ9
        refine r_iconst (v := (1 : Int32)) C (by decide) dX2_many_38 (r_goto (tgt := 57) C (by decide) dX2_many_39 ?_)
        exact r_sub C [1, 3, 4, 5] rfl hJ9
theorem b_X2_many_14 {G : gT} {l : Launch} {V : Hp → Nat → Nat → Nat → List (Nat × Value) → List Value → Prop} {mc ms : Nat} {Q : Int32 → Hp → Prop} (C : Cx G l V cX2_many 7 RX2 12 262 mc ms (pI Q) none (some .int) [] false) : ∀ (k : Nat) (h : Hp) (c : Nat) (n : Nat) (x1 : Int32) (x2 : Int32) (x3 : Option Nat) (x4 : Int32) (x5 : Int32), c ≤ mc → n ≤ ms → B_X2_many_14 mc ms Q k h c n x1 x2 x3 x4 x5 → V h c n 14 [(1, .int x1), (2, .int x2), (3, va_rf x3), (4, .int x4), (5, .int x5)] [] := by
  intro k
  induction k with
  | zero =>
    intro h c n x1 x2 x3 x4 x5 b1 b2 hw
    exact hw.elim
  | succ k ih =>
    intro h c n x1 x2 x3 x4 x5 b1 b2 hw
    exact s_X2_many_14 C _ (fun h c n x1 x2 x3 x4 x5 b1 b2 hw => ih h c n x1 x2 x3 x4 x5 b1 b2 hw) h c n x1 x2 x3 x4 x5 b1 b2 hw
theorem sg_X2_many : ySg yX2_many 1 = true := by decide +kernel
theorem c_X2_many (G : gT) (l : Launch) (mc ms : Nat) (a0 : Nat) (i1 : Int32) (h : Hp) (Q : Int32 → Hp → Prop) (hw : w_X2_many mc ms a0 i1 h Q) : Ct G l yX2_many (ws_ yX2_many cX2_many 7 (some .int)) 12 262 mc ms [.ref a0, .int i1] h (pI Q) := by
  refine Ct.of (own := RX2) false (by decide +kernel) rfl (show (_ : Nat) ≤ _ from Nat.le_of_ble_eq_true rfl) (fun z => by cases z) (fun V C => ?_)
  show V h 0 0 0 [(0, .ref a0), (1, .int i1)] []
  unfold w_X2_many at hw
  refine r_iconst (v := (0 : Int32)) C (by decide) dX2_many_0 (r_istore_n (L' := [(2, .int (0 : Int32)), (0, .ref a0), (1, .int i1)]) C rfl (by decide) rfl dX2_many_1 (r_aload_n C rfl 1 rfl dX2_many_2 ?_))
  obtain ⟨hq10, hw⟩ := hw
  obtain ⟨k13, k14, hp15, hp16, hw⟩ := hw
  refine r_callV (ci := 1) (rest := []) (As := []) C sg_X2_fakes rfl rfl q1383 q1384 q1385 q78 q1386 rfl (Nat.le_of_ble_eq_true rfl) dX2_many_3 rfl hq10 hp15 hp16 (c_X2_fakes G l k13 k14 a0 h _ hw) (k_R (fun r11 h12 hw => ?_))
  refine r_astore_nO (x := r11) (L' := [(3, va_rf r11), (2, .int (0 : Int32)), (0, .ref a0), (1, .int i1)]) C rfl (by decide) rfl dX2_many_6 (r_aload_nO C rfl 0 rfl dX2_many_7 ?_)
  obtain ⟨y17, rfl, hw_y17⟩ := hw
  have hw := hw_y17
  refine r_alen C dX2_many_8 hw (fun v18 hw => ?_)
  refine r_istore (L' := [(4, .int v18), (3, .ref y17), (2, .int (0 : Int32)), (0, .ref a0), (1, .int i1)]) C (by decide) rfl dX2_many_9 (r_iconst (v := (0 : Int32)) C (by decide) dX2_many_11 (r_istore (L' := [(5, .int (0 : Int32)), (4, .int v18), (3, .ref y17), (2, .int (0 : Int32)), (0, .ref a0), (1, .int i1)]) C (by decide) rfl dX2_many_12 ?_))
  obtain ⟨k9, hw⟩ := hw
  exact r_sub C [5, 3, 2, 1, 0] rfl (b_X2_many_14 C _ _ _ _ _ _ _ _ _ hp15 hp16 hw)
def S_X2_onShelves_12 (mc ms : Nat) (Q : Int32 → Hp → Prop) (LA12 : Hp → Nat → Nat → Int32 → (Option Nat) → Prop) (h : Hp) (c : Nat) (n : Nat) (x1 : Int32) (x2 : Option Nat) : Prop :=
  nn x2 (fun y1 => hasC h y1 13 ∧ (wj_J25_hasNext y1 h (fun r3 h4 => (r3 = false → Q x1 h4) ∧ (r3 = true → hasC h4 y1 13 ∧ (wj_J25_next y1 h4 (fun r7 h8 => (∀ z9 : Nat, r7 = some z9 → hasC h8 z9 9) ∧ (nn r7 (fun y11 => hasC h8 y11 9 ∧ (wj_J4_size y11 h8 (fun r13 h14 => LA12 h14 c n (x1 + r13) (some y1)))))))))))
def B_X2_onShelves_12 (mc ms : Nat) (Q : Int32 → Hp → Prop) : Nat → Hp → Nat → Nat → Int32 → (Option Nat) → Prop
  | 0, _, _, _, _, _ => False
  | k + 1, h, c, n, x1, x2 => S_X2_onShelves_12 mc ms Q (B_X2_onShelves_12 mc ms Q k) h c n x1 x2
def w_X2_onShelves (mc ms : Nat) (a0 : Nat) (h : Hp) (Q : Int32 → Hp → Prop) : Prop :=
  gfR h a0 1 3 (fun v15 => nn v15 (fun y16 => hasC h y16 8 ∧ (∃ k20 k21 : Nat, 0 + k20 ≤ mc ∧ 0 + k21 ≤ ms ∧ (wj_J2_iterator k20 k21 y16 h (fun r18 h19 => ∃ k9 : Nat, B_X2_onShelves_12 mc ms Q k9 h19 (0 + k20) (0 + k21) (0 : Int32) r18)))))
theorem s_X2_onShelves_12 {G : gT} {l : Launch} {V : Hp → Nat → Nat → Nat → List (Nat × Value) → List Value → Prop} {mc ms : Nat} {Q : Int32 → Hp → Prop} (C : Cx G l V cX2_onShelves 4 RX2 3 57 mc ms (pI Q) none (some .int) [] false) (LA12 : Hp → Nat → Nat → Int32 → (Option Nat) → Prop) (hLA12 : ∀ (h : Hp) (c : Nat) (n : Nat) (x1 : Int32) (x2 : Option Nat), c ≤ mc → n ≤ ms → LA12 h c n x1 x2 → V h c n 12 [(1, .int x1), (2, va_rf x2)] []) (h : Hp) (c : Nat) (n : Nat) (x1 : Int32) (x2 : Option Nat) (b1 : c ≤ mc) (b2 : n ≤ ms) (hw : S_X2_onShelves_12 mc ms Q LA12 h c n x1 x2) : V h c n 12 [(1, .int x1), (2, va_rf x2)] [] := by
  unfold S_X2_onShelves_12 at hw
  refine r_aload_nO C rfl 1 rfl dX2_onShelves_12 ?_
  obtain ⟨y1, rfl, hw_y1⟩ := hw
  have hw := hw_y1
  obtain ⟨hq2, hw⟩ := hw
  refine r_callF (ci := 13) (rest := []) (As := []) C (x := ⟨"java/util/Iterator", "hasNext", "()Z"⟩) (show ySg ⟨"java/util/Iterator", "hasNext", "()Z"⟩ 0 = true by decide +kernel) rfl q1161 q1183 q1185 q110 q1187 (List.mem_of_getElem? (i := 14) rfl) rfl (Nat.le_of_ble_eq_true rfl) dX2_onShelves_13 rfl hq2 b1 b2 (cj_J25_hasNext G l y1 h _ hw) (k_Z (fun r3 h4 hw => ?_))
  refine r_if_eq_b (tgt := 41) C (by decide) dX2_onShelves_18 (fun hc5 => ?_) (fun hc5 => ?_)
  · have hw := hw.1 hc5
    refine r_iload_n C rfl 0 rfl dX2_onShelves_41 ?_
    exact r_ireturn C dX2_onShelves_42 b1 b2 ⟨_, rfl, hw⟩
  · have hw := hw.2 hc5
    refine r_aload_n C rfl 1 rfl dX2_onShelves_21 ?_
    obtain ⟨hq6, hw⟩ := hw
    refine r_callF (ci := 13) (rest := []) (As := []) C (x := ⟨"java/util/Iterator", "next", "()Ljava/lang/Object;"⟩) (show ySg ⟨"java/util/Iterator", "next", "()Ljava/lang/Object;"⟩ 0 = true by decide +kernel) rfl q1198 q1298 q1300 q110 q1302 (List.mem_of_getElem? (i := 19) rfl) rfl (Nat.le_of_ble_eq_true rfl) dX2_onShelves_22 rfl hq6 b1 b2 (cj_J25_next G l y1 h4 _ hw) (k_R (fun r7 h8 hw => ?_))
    obtain ⟨e10, hw⟩ := hw
    refine r_cast (x := r7) C (ci := 9) rfl q169 dX2_onShelves_27 e10 ?_
    refine r_astore_nO (x := r7) (L' := [(3, va_rf r7), (1, .int x1), (2, .ref y1)]) C rfl (by decide) rfl dX2_onShelves_30 (r_iload_n C rfl 1 rfl dX2_onShelves_31 (r_aload_nO C rfl 0 rfl dX2_onShelves_32 ?_))
    obtain ⟨y11, rfl, hw_y11⟩ := hw
    have hw := hw_y11
    obtain ⟨hq12, hw⟩ := hw
    refine r_callV (ci := 9) (rest := [.int x1]) (As := []) C sg_J4_size rfl rfl q1545 q421 q2649 q83 q423 rfl (Nat.le_of_ble_eq_true rfl) dX2_onShelves_33 rfl hq12 b1 b2 (cj_J4_size G l y11 h8 _ hw) (k_I (fun r13 h14 hw => ?_))
    refine r_iadd C dX2_onShelves_36 (r_istore_n (L' := [(1, .int (x1 + r13)), (3, .ref y11), (2, .ref y1)]) C rfl (by decide) rfl dX2_onShelves_37 (r_goto (tgt := 12) C (by decide) dX2_onShelves_38 ?_))
    exact r_sub C [0, 2] rfl (hLA12 _ _ _ _ _ b1 b2 hw)
theorem b_X2_onShelves_12 {G : gT} {l : Launch} {V : Hp → Nat → Nat → Nat → List (Nat × Value) → List Value → Prop} {mc ms : Nat} {Q : Int32 → Hp → Prop} (C : Cx G l V cX2_onShelves 4 RX2 3 57 mc ms (pI Q) none (some .int) [] false) : ∀ (k : Nat) (h : Hp) (c : Nat) (n : Nat) (x1 : Int32) (x2 : Option Nat), c ≤ mc → n ≤ ms → B_X2_onShelves_12 mc ms Q k h c n x1 x2 → V h c n 12 [(1, .int x1), (2, va_rf x2)] [] := by
  intro k
  induction k with
  | zero =>
    intro h c n x1 x2 b1 b2 hw
    exact hw.elim
  | succ k ih =>
    intro h c n x1 x2 b1 b2 hw
    exact s_X2_onShelves_12 C _ (fun h c n x1 x2 b1 b2 hw => ih h c n x1 x2 b1 b2 hw) h c n x1 x2 b1 b2 hw
theorem sg_X2_onShelves : ySg yX2_onShelves 0 = true := by decide +kernel
theorem c_X2_onShelves (G : gT) (l : Launch) (mc ms : Nat) (a0 : Nat) (h : Hp) (Q : Int32 → Hp → Prop) (hw : w_X2_onShelves mc ms a0 h Q) : Ct G l yX2_onShelves (ws_ yX2_onShelves cX2_onShelves 4 (some .int)) 3 57 mc ms [.ref a0] h (pI Q) := by
  refine Ct.of (own := RX2) false (by decide +kernel) rfl (show (_ : Nat) ≤ _ from Nat.le_of_ble_eq_true rfl) (fun z => by cases z) (fun V C => ?_)
  show V h 0 0 0 [(0, .ref a0)] []
  unfold w_X2_onShelves at hw
  refine r_iconst (v := (0 : Int32)) C (by decide) dX2_onShelves_0 (r_istore_n (L' := [(1, .int (0 : Int32)), (0, .ref a0)]) C rfl (by decide) rfl dX2_onShelves_1 (r_aload_n C rfl 1 rfl dX2_onShelves_2 ?_))
  refine r_gfR (k := 3) C kX2 (by decide) (Or.inl q308) (Or.inl rfl) dX2_onShelves_3 hw (fun v15 hw => ?_)
  obtain ⟨y16, rfl, hw_y16⟩ := hw
  have hw := hw_y16
  obtain ⟨hq17, hw⟩ := hw
  obtain ⟨k20, k21, hp22, hp23, hw⟩ := hw
  refine r_callF (ci := 8) (rest := []) (As := []) C (x := ⟨"java/util/List", "iterator", "()Ljava/util/Iterator;"⟩) (show ySg ⟨"java/util/List", "iterator", "()Ljava/util/Iterator;"⟩ 0 = true by decide +kernel) rfl q1048 q1051 q1053 q81 q1055 (List.mem_of_getElem? (i := 10) rfl) rfl (Nat.le_of_ble_eq_true rfl) dX2_onShelves_6 rfl hq17 hp22 hp23 (cj_J2_iterator G l k20 k21 y16 h _ hw) (k_R (fun r18 h19 hw => ?_))
  refine r_astore_nO (x := r18) (L' := [(2, va_rf r18), (1, .int (0 : Int32)), (0, .ref a0)]) C rfl (by decide) rfl dX2_onShelves_11 ?_
  obtain ⟨k9, hw⟩ := hw
  exact r_sub C [1, 0] rfl (b_X2_onShelves_12 C _ _ _ _ _ _ hp22 hp23 hw)
def B_X2_isGood_77 (mc ms : Nat) (Q : Bool → Hp → Prop) (LA20 : Hp → Nat → Nat → Nat → Nat → Int32 → (Option Nat) → Prop) (h : Hp) (c : Nat) (n : Nat) (x0 : Nat) (x2 : Nat) (x3 : Int32) (x4 : Option Nat) : Prop :=
  LA20 h c n x0 x2 x3 x4
def S_X2_isGood_20 (mc ms : Nat) (Q : Bool → Hp → Prop) (LA20 : Hp → Nat → Nat → Nat → Nat → Int32 → (Option Nat) → Prop) (h : Hp) (c : Nat) (n : Nat) (x0 : Nat) (x2 : Nat) (x3 : Int32) (x4 : Option Nat) : Prop :=
  nn x4 (fun y1 => hasC h y1 14 ∧ (wj_J28_hasNext y1 h (fun r3 h4 => (r3 = false → Q true h4) ∧ (r3 = true → hasC h4 y1 14 ∧ (wj_J28_next y1 h4 (fun r7 h8 => (∀ z9 : Nat, r7 = some z9 → hasC h8 z9 12) ∧ (nn r7 (fun y11 => hasC h8 y11 12 ∧ (wj_J24_intValue y11 h8 (fun r13 h14 => rdI h14 x2 r13 (fun v15 => (¬ v15 = 0 → B_X2_isGood_77 mc ms Q LA20 h14 c n x0 x2 x3 (some y1)) ∧ (v15 = 0 → hasC h14 x0 1 ∧ (∃ k20 k21 : Nat, c + k20 ≤ mc ∧ n + k21 ≤ ms ∧ (w_X2_possible k20 k21 x0 r13 h14 (fun r18 h19 => nn r18 (fun y24 => w_X1_first y24 h19 (fun r25 h26 => (x3 ≤ r25 → hasC h26 x0 1 ∧ (∃ k31 k32 : Nat, (c + k20) + k31 ≤ mc ∧ (n + k21) + k32 ≤ ms ∧ (w_X2_possible k31 k32 x0 r13 h26 (fun r29 h30 => nn r29 (fun y35 => w_X1_first y35 h30 (fun r36 h37 => B_X2_isGood_77 mc ms Q LA20 h37 ((c + k20) + k31) ((n + k21) + k32) x0 x2 r36 (some y1))))))) ∧ (¬ x3 ≤ r25 → Q false h26))))))))))))))))))
def B_X2_isGood_20 (mc ms : Nat) (Q : Bool → Hp → Prop) : Nat → Hp → Nat → Nat → Nat → Nat → Int32 → (Option Nat) → Prop
  | 0, _, _, _, _, _, _, _ => False
  | k + 1, h, c, n, x0, x2, x3, x4 => S_X2_isGood_20 mc ms Q (B_X2_isGood_20 mc ms Q k) h c n x0 x2 x3 x4
def w_X2_isGood (mc ms : Nat) (a0 : Nat) (i1 : Int32) (a2 : Nat) (h : Hp) (Q : Bool → Hp → Prop) : Prop :=
  gfR h a0 1 3 (fun v38 => nn v38 (fun y39 => hasC h y39 8 ∧ (wj_J2_get y39 i1 h (fun r41 h42 => (∀ z43 : Nat, r41 = some z43 → hasC h42 z43 9) ∧ (nn r41 (fun y45 => hasC h42 y45 9 ∧ (∃ k49 k50 : Nat, 0 + k49 ≤ mc ∧ 0 + k50 ≤ ms ∧ (wj_J3_iterator k49 k50 y45 h42 (fun r47 h48 => ∃ k9 : Nat, B_X2_isGood_20 mc ms Q k9 h48 (0 + k49) (0 + k50) a0 a2 (0 : Int32) r47)))))))))
theorem b_X2_isGood_77 {G : gT} {l : Launch} {V : Hp → Nat → Nat → Nat → List (Nat × Value) → List Value → Prop} {mc ms : Nat} {Q : Bool → Hp → Prop} (C : Cx G l V cX2_isGood 6 RX2 9 191 mc ms (pZ Q) none (some .boolean) [] false) (LA20 : Hp → Nat → Nat → Nat → Nat → Int32 → (Option Nat) → Prop) (hLA20 : ∀ (h : Hp) (c : Nat) (n : Nat) (x0 : Nat) (x2 : Nat) (x3 : Int32) (x4 : Option Nat), c ≤ mc → n ≤ ms → LA20 h c n x0 x2 x3 x4 → V h c n 20 [(0, .ref x0), (2, .ref x2), (3, .int x3), (4, va_rf x4)] []) (h : Hp) (c : Nat) (n : Nat) (x0 : Nat) (x2 : Nat) (x3 : Int32) (x4 : Option Nat) (b1 : c ≤ mc) (b2 : n ≤ ms) (hw : B_X2_isGood_77 mc ms Q LA20 h c n x0 x2 x3 x4) : V h c n 77 [(0, .ref x0), (2, .ref x2), (3, .int x3), (4, va_rf x4)] [] := by
  unfold B_X2_isGood_77 at hw
  refine r_goto (tgt := 20) C (by decide) dX2_isGood_77 ?_
  exact r_sub C [0, 1, 2, 3] rfl (hLA20 _ _ _ _ _ _ _ b1 b2 hw)
theorem s_X2_isGood_20 {G : gT} {l : Launch} {V : Hp → Nat → Nat → Nat → List (Nat × Value) → List Value → Prop} {mc ms : Nat} {Q : Bool → Hp → Prop} (C : Cx G l V cX2_isGood 6 RX2 9 191 mc ms (pZ Q) none (some .boolean) [] false) (LA20 : Hp → Nat → Nat → Nat → Nat → Int32 → (Option Nat) → Prop) (hLA20 : ∀ (h : Hp) (c : Nat) (n : Nat) (x0 : Nat) (x2 : Nat) (x3 : Int32) (x4 : Option Nat), c ≤ mc → n ≤ ms → LA20 h c n x0 x2 x3 x4 → V h c n 20 [(0, .ref x0), (2, .ref x2), (3, .int x3), (4, va_rf x4)] []) (h : Hp) (c : Nat) (n : Nat) (x0 : Nat) (x2 : Nat) (x3 : Int32) (x4 : Option Nat) (b1 : c ≤ mc) (b2 : n ≤ ms) (hw : S_X2_isGood_20 mc ms Q LA20 h c n x0 x2 x3 x4) : V h c n 20 [(0, .ref x0), (2, .ref x2), (3, .int x3), (4, va_rf x4)] [] := by
  unfold S_X2_isGood_20 at hw
  refine r_aloadO C 3 rfl dX2_isGood_20 ?_
  obtain ⟨y1, rfl, hw_y1⟩ := hw
  have hw := hw_y1
  obtain ⟨hq2, hw⟩ := hw
  refine r_callF (ci := 14) (rest := []) (As := []) C (x := ⟨"java/util/Iterator", "hasNext", "()Z"⟩) (show ySg ⟨"java/util/Iterator", "hasNext", "()Z"⟩ 0 = true by decide +kernel) rfl q1161 q1192 q1194 q114 q1196 (List.mem_of_getElem? (i := 16) rfl) rfl (Nat.le_of_ble_eq_true rfl) dX2_isGood_22 rfl hq2 b1 b2 (cj_J28_hasNext G l y1 h _ hw) (k_Z (fun r3 h4 hw => ?_))
  refine r_if_eq_b (tgt := 80) C (by decide) dX2_isGood_27 (fun hc5 => ?_) (fun hc5 => ?_)
  · have hw := hw.1 hc5
    refine r_iconst (v := (1 : Int32)) C (by decide) dX2_isGood_80 ?_
    exact r_zreturn (x := true) C dX2_isGood_81 b1 b2 ⟨_, rfl, hw⟩
  · have hw := hw.2 hc5
    refine r_aload C 3 rfl dX2_isGood_30 ?_
    obtain ⟨hq6, hw⟩ := hw
    refine r_callF (ci := 14) (rest := []) (As := []) C (x := ⟨"java/util/Iterator", "next", "()Ljava/lang/Object;"⟩) (show ySg ⟨"java/util/Iterator", "next", "()Ljava/lang/Object;"⟩ 0 = true by decide +kernel) rfl q1198 q1311 q1313 q114 q1315 (List.mem_of_getElem? (i := 21) rfl) rfl (Nat.le_of_ble_eq_true rfl) dX2_isGood_32 rfl hq6 b1 b2 (cj_J28_next G l y1 h4 _ hw) (k_R (fun r7 h8 hw => ?_))
    obtain ⟨e10, hw⟩ := hw
    refine r_cast (x := r7) C (ci := 12) rfl q1558 dX2_isGood_37 e10 ?_
    obtain ⟨y11, rfl, hw_y11⟩ := hw
    have hw := hw_y11
    obtain ⟨hq12, hw⟩ := hw
    refine r_callV (ci := 12) (rest := []) (As := []) C sg_J24_intValue rfl rfl q1559 q952 q953 q105 q954 rfl (Nat.le_of_ble_eq_true rfl) dX2_isGood_40 rfl hq12 b1 b2 (cj_J24_intValue G l y11 h8 _ hw) (k_I (fun r13 h14 hw => ?_))
    refine r_istore (L' := [(5, .int r13), (0, .ref x0), (2, .ref x2), (3, .int x3), (4, .ref y1)]) C (by decide) rfl dX2_isGood_43 (r_aload_n C rfl 2 rfl dX2_isGood_45 (r_iload C 0 rfl dX2_isGood_46 ?_))
    refine r_iaload C dX2_isGood_48 hw (fun v15 hw => ?_)
    refine r_if_ne (tgt := 77) C (by decide) dX2_isGood_49 (fun hc16 => ?_) (fun hc16 => ?_)
    · have hw := hw.1 hc16
      exact r_sub C [1, 2, 3, 4] rfl (b_X2_isGood_77 C LA20 hLA20 _ _ _ _ _ _ _ b1 b2 hw)
    · have hw := hw.2 hc16
      refine r_aload_n C rfl 1 rfl dX2_isGood_52 (r_iload C 0 rfl dX2_isGood_53 ?_)
      obtain ⟨hq17, hw⟩ := hw
      obtain ⟨k20, k21, hp22, hp23, hw⟩ := hw
      refine r_callV (ci := 1) (rest := []) (As := [.int r13]) C sg_X2_possible rfl rfl q1424 q1425 q1426 q78 q1427 rfl (Nat.le_of_ble_eq_true rfl) dX2_isGood_55 rfl hq17 hp22 hp23 (c_X2_possible G l k20 k21 x0 r13 h14 _ hw) (k_R (fun r18 h19 hw => ?_))
      obtain ⟨y24, rfl, hw_y24⟩ := hw
      have hw := hw_y24
      refine r_callSN (rest := []) (As := [.ref y24]) C sg_X1_first (List.mem_of_getElem? (i := 53) rfl) q1561 q77 q1562 rfl (Nat.le_of_ble_eq_true rfl) dX2_isGood_58 rfl hp22 hp23 (c_X1_first G l y24 h19 _ hw) (k_I (fun r25 h26 hw => ?_))
      refine r_iload_n C rfl 3 rfl dX2_isGood_61 ?_
      refine r_icmp_ge (tgt := 67) C (by decide) dX2_isGood_62 (fun hc27 => ?_) (fun hc27 => ?_)
      · have hw := hw.1 hc27
        refine r_aload_n C rfl 1 rfl dX2_isGood_67 (r_iload C 0 rfl dX2_isGood_68 ?_)
        obtain ⟨hq28, hw⟩ := hw
        obtain ⟨k31, k32, hp33, hp34, hw⟩ := hw
        refine r_callV (ci := 1) (rest := []) (As := [.int r13]) C sg_X2_possible rfl rfl q1424 q1425 q1426 q78 q1427 rfl (Nat.le_of_ble_eq_true rfl) dX2_isGood_70 rfl hq28 hp33 hp34 (c_X2_possible G l k31 k32 x0 r13 h26 _ hw) (k_R (fun r29 h30 hw => ?_))
        obtain ⟨y35, rfl, hw_y35⟩ := hw
        have hw := hw_y35
        refine r_callSN (rest := []) (As := [.ref y35]) C sg_X1_first (List.mem_of_getElem? (i := 53) rfl) q1561 q77 q1562 rfl (Nat.le_of_ble_eq_true rfl) dX2_isGood_73 rfl hp33 hp34 (c_X1_first G l y35 h30 _ hw) (k_I (fun r36 h37 hw => ?_))
        refine r_istore_n (L' := [(3, .int r36), (5, .int r13), (0, .ref x0), (2, .ref x2), (4, .ref y1)]) C rfl (by decide) rfl dX2_isGood_76 ?_
        exact r_sub C [2, 3, 0, 4] rfl (b_X2_isGood_77 C LA20 hLA20 _ _ _ _ _ _ _ hp33 hp34 hw)
      · have hw := hw.2 hc27
        refine r_iconst (v := (0 : Int32)) C (by decide) dX2_isGood_65 ?_
        exact r_zreturn (x := false) C dX2_isGood_66 hp22 hp23 ⟨_, rfl, hw⟩
theorem b_X2_isGood_20 {G : gT} {l : Launch} {V : Hp → Nat → Nat → Nat → List (Nat × Value) → List Value → Prop} {mc ms : Nat} {Q : Bool → Hp → Prop} (C : Cx G l V cX2_isGood 6 RX2 9 191 mc ms (pZ Q) none (some .boolean) [] false) : ∀ (k : Nat) (h : Hp) (c : Nat) (n : Nat) (x0 : Nat) (x2 : Nat) (x3 : Int32) (x4 : Option Nat), c ≤ mc → n ≤ ms → B_X2_isGood_20 mc ms Q k h c n x0 x2 x3 x4 → V h c n 20 [(0, .ref x0), (2, .ref x2), (3, .int x3), (4, va_rf x4)] [] := by
  intro k
  induction k with
  | zero =>
    intro h c n x0 x2 x3 x4 b1 b2 hw
    exact hw.elim
  | succ k ih =>
    intro h c n x0 x2 x3 x4 b1 b2 hw
    exact s_X2_isGood_20 C _ (fun h c n x0 x2 x3 x4 b1 b2 hw => ih h c n x0 x2 x3 x4 b1 b2 hw) h c n x0 x2 x3 x4 b1 b2 hw
theorem sg_X2_isGood : ySg yX2_isGood 2 = true := by decide +kernel
theorem c_X2_isGood (G : gT) (l : Launch) (mc ms : Nat) (a0 : Nat) (i1 : Int32) (a2 : Nat) (h : Hp) (Q : Bool → Hp → Prop) (hw : w_X2_isGood mc ms a0 i1 a2 h Q) : Ct G l yX2_isGood (ws_ yX2_isGood cX2_isGood 6 (some .boolean)) 9 191 mc ms [.ref a0, .int i1, .ref a2] h (pZ Q) := by
  refine Ct.of (own := RX2) false (by decide +kernel) rfl (show (_ : Nat) ≤ _ from Nat.le_of_ble_eq_true rfl) (fun z => by cases z) (fun V C => ?_)
  show V h 0 0 0 [(0, .ref a0), (1, .int i1), (2, .ref a2)] []
  unfold w_X2_isGood at hw
  refine r_iconst (v := (0 : Int32)) C (by decide) dX2_isGood_0 (r_istore_n (L' := [(3, .int (0 : Int32)), (0, .ref a0), (1, .int i1), (2, .ref a2)]) C rfl (by decide) rfl dX2_isGood_1 (r_aload_n C rfl 1 rfl dX2_isGood_2 ?_))
  refine r_gfR (k := 3) C kX2 (by decide) (Or.inl q308) (Or.inl rfl) dX2_isGood_3 hw (fun v38 hw => ?_)
  refine r_iload_n C rfl 2 rfl dX2_isGood_6 ?_
  obtain ⟨y39, rfl, hw_y39⟩ := hw
  have hw := hw_y39
  obtain ⟨hq40, hw⟩ := hw
  refine r_callF (ci := 8) (rest := []) (As := [.int i1]) C (x := ⟨"java/util/List", "get", "(I)Ljava/lang/Object;"⟩) (show ySg ⟨"java/util/List", "get", "(I)Ljava/lang/Object;"⟩ 1 = true by decide +kernel) rfl q450 q453 q455 q81 q457 (List.mem_of_getElem? (i := 6) rfl) rfl (Nat.le_of_ble_eq_true rfl) dX2_isGood_7 rfl hq40 (Nat.zero_le _) (Nat.zero_le _) (cj_J2_get G l y39 i1 h _ hw) (k_R (fun r41 h42 hw => ?_))
  obtain ⟨e44, hw⟩ := hw
  refine r_cast (x := r41) C (ci := 9) rfl q169 dX2_isGood_12 e44 ?_
  obtain ⟨y45, rfl, hw_y45⟩ := hw
  have hw := hw_y45
  obtain ⟨hq46, hw⟩ := hw
  obtain ⟨k49, k50, hp51, hp52, hw⟩ := hw
  refine r_callU (ci := 9) (owner := "java/util/AbstractSequentialList") (rest := []) (As := []) C (x := ⟨"java/util/LinkedList", "iterator", "()Ljava/util/Iterator;"⟩) (show ySg ⟨"java/util/AbstractSequentialList", "iterator", "()Ljava/util/Iterator;"⟩ 0 = true by decide +kernel) rfl q1554 q1555 q1557 q1079 q82 q1081 (by decide +kernel) rfl (Nat.le_of_ble_eq_true rfl) dX2_isGood_15 rfl hq46 hp51 hp52 (cj_J3_iterator G l k49 k50 y45 h42 _ hw) (k_R (fun r47 h48 hw => ?_))
  refine r_astoreO (x := r47) (L' := [(4, va_rf r47), (3, .int (0 : Int32)), (0, .ref a0), (1, .int i1), (2, .ref a2)]) C (by decide) rfl dX2_isGood_18 ?_
  obtain ⟨k9, hw⟩ := hw
  exact r_sub C [2, 4, 1, 0] rfl (b_X2_isGood_20 C _ _ _ _ _ _ _ _ hp51 hp52 hw)
def S_X2_badShelves_9 (mc ms : Nat) (Q : Int32 → Hp → Prop) (LA9 : Hp → Nat → Nat → Nat → (Option Nat) → Int32 → Int32 → Prop) (h : Hp) (c : Nat) (n : Nat) (x0 : Nat) (x1 : Option Nat) (x2 : Int32) (x3 : Int32) : Prop :=
  ((6 : Int32) ≤ x3 → Q x2 h) ∧ (¬ (6 : Int32) ≤ x3 → nn x1 (fun y2 => hasC h x0 1 ∧ (∃ k6 k7 : Nat, c + k6 ≤ mc ∧ n + k7 ≤ ms ∧ (w_X2_isGood k6 k7 x0 x3 y2 h (fun r4 h5 => LA9 h5 (c + k6) (n + k7) x0 (some y2) (x2 + (bI (if r4 = false then true else false))) (x3 + (1 : Int32)))))))
def B_X2_badShelves_9 (mc ms : Nat) (Q : Int32 → Hp → Prop) : Nat → Hp → Nat → Nat → Nat → (Option Nat) → Int32 → Int32 → Prop
  | 0, _, _, _, _, _, _, _ => False
  | k + 1, h, c, n, x0, x1, x2, x3 => S_X2_badShelves_9 mc ms Q (B_X2_badShelves_9 mc ms Q k) h c n x0 x1 x2 x3
def w_X2_badShelves (mc ms : Nat) (a0 : Nat) (h : Hp) (Q : Int32 → Hp → Prop) : Prop :=
  hasC h a0 1 ∧ (∃ k15 k16 : Nat, 0 + k15 ≤ mc ∧ 0 + k16 ≤ ms ∧ (w_X2_fakes k15 k16 a0 h (fun r13 h14 => ∃ k9 : Nat, B_X2_badShelves_9 mc ms Q k9 h14 (0 + k15) (0 + k16) a0 r13 (0 : Int32) (0 : Int32))))
theorem s_X2_badShelves_9 {G : gT} {l : Launch} {V : Hp → Nat → Nat → Nat → List (Nat × Value) → List Value → Prop} {mc ms : Nat} {Q : Int32 → Hp → Prop} (C : Cx G l V cX2_badShelves 4 RX2 12 262 mc ms (pI Q) none (some .int) [] false) (LA9 : Hp → Nat → Nat → Nat → (Option Nat) → Int32 → Int32 → Prop) (hLA9 : ∀ (h : Hp) (c : Nat) (n : Nat) (x0 : Nat) (x1 : Option Nat) (x2 : Int32) (x3 : Int32), c ≤ mc → n ≤ ms → LA9 h c n x0 x1 x2 x3 → V h c n 9 [(0, .ref x0), (1, va_rf x1), (2, .int x2), (3, .int x3)] []) (h : Hp) (c : Nat) (n : Nat) (x0 : Nat) (x1 : Option Nat) (x2 : Int32) (x3 : Int32) (b1 : c ≤ mc) (b2 : n ≤ ms) (hw : S_X2_badShelves_9 mc ms Q LA9 h c n x0 x1 x2 x3) : V h c n 9 [(0, .ref x0), (1, va_rf x1), (2, .int x2), (3, .int x3)] [] := by
  unfold S_X2_badShelves_9 at hw
  refine r_iload_n C rfl 3 rfl dX2_badShelves_9 (r_bipush (v := (6 : Int32)) C (by decide) dX2_badShelves_10 ?_)
  refine r_icmp_ge (tgt := 38) C (by decide) dX2_badShelves_12 (fun hc1 => ?_) (fun hc1 => ?_)
  · have hw := hw.1 hc1
    refine r_iload_n C rfl 2 rfl dX2_badShelves_38 ?_
    exact r_ireturn C dX2_badShelves_39 b1 b2 ⟨_, rfl, hw⟩
  · have hw := hw.2 hc1
    refine r_iload_n C rfl 2 rfl dX2_badShelves_15 (r_aload_n C rfl 0 rfl dX2_badShelves_16 (r_iload_n C rfl 3 rfl dX2_badShelves_17 (r_aload_nO C rfl 1 rfl dX2_badShelves_18 ?_)))
    obtain ⟨y2, rfl, hw_y2⟩ := hw
    have hw := hw_y2
    obtain ⟨hq3, hw⟩ := hw
    obtain ⟨k6, k7, hp8, hp9, hw⟩ := hw
    refine r_callV (ci := 1) (rest := [.int x2]) (As := [.int x3, .ref y2]) C sg_X2_isGood rfl rfl q1550 q1551 q1552 q78 q1553 rfl (Nat.le_of_ble_eq_true rfl) dX2_badShelves_19 rfl hq3 hp8 hp9 (c_X2_isGood G l k6 k7 x0 x3 y2 h _ hw) (k_Z (fun r4 h5 hw => ?_))
    have hJ : V h5 (c + k6) (n + k7) 30 [(0, .ref x0), (1, .ref y2), (3, .int x3)] [.int (bI (if r4 = false then true else false)), .int x2] := by
      refine r_iadd C dX2_badShelves_30 (r_istore_n (L' := [(2, .int (x2 + (bI (if r4 = false then true else false)))), (0, .ref x0), (1, .ref y2), (3, .int x3)]) C rfl (by decide) rfl dX2_badShelves_31 (r_iinc (v := x3 + (1 : Int32)) (L' := [(3, .int (x3 + (1 : Int32))), (2, .int (x2 + (bI (if r4 = false then true else false)))), (0, .ref x0), (1, .ref y2)]) C (u := 3) rfl (by rfl) (by decide) rfl dX2_badShelves_32 (r_goto (tgt := 9) C (by decide) dX2_badShelves_35 ?_)))
      exact r_sub C [2, 3, 1, 0] rfl (hLA9 _ _ _ _ _ _ _ hp8 hp9 hw)
    refine r_if_eq_b (tgt := 29) C (by decide) dX2_badShelves_22 (fun hc10 => ?_) (fun hc10 => ?_)
    · have hJ11 := hJ
      try simp only [if_pos hc10] at hJ11
      refine r_iconst (v := (1 : Int32)) C (by decide) dX2_badShelves_29 ?_
      exact r_sub C [0, 1, 3] rfl hJ11
    · have hJ11 := hJ
      try simp only [if_neg (show ¬ r4 = false from by rw [hc10]; decide)] at hJ11
      refine r_iconst (v := (0 : Int32)) C (by decide) dX2_badShelves_25 (r_goto (tgt := 30) C (by decide) dX2_badShelves_26 ?_)
      exact r_sub C [0, 1, 3] rfl hJ11
theorem b_X2_badShelves_9 {G : gT} {l : Launch} {V : Hp → Nat → Nat → Nat → List (Nat × Value) → List Value → Prop} {mc ms : Nat} {Q : Int32 → Hp → Prop} (C : Cx G l V cX2_badShelves 4 RX2 12 262 mc ms (pI Q) none (some .int) [] false) : ∀ (k : Nat) (h : Hp) (c : Nat) (n : Nat) (x0 : Nat) (x1 : Option Nat) (x2 : Int32) (x3 : Int32), c ≤ mc → n ≤ ms → B_X2_badShelves_9 mc ms Q k h c n x0 x1 x2 x3 → V h c n 9 [(0, .ref x0), (1, va_rf x1), (2, .int x2), (3, .int x3)] [] := by
  intro k
  induction k with
  | zero =>
    intro h c n x0 x1 x2 x3 b1 b2 hw
    exact hw.elim
  | succ k ih =>
    intro h c n x0 x1 x2 x3 b1 b2 hw
    exact s_X2_badShelves_9 C _ (fun h c n x0 x1 x2 x3 b1 b2 hw => ih h c n x0 x1 x2 x3 b1 b2 hw) h c n x0 x1 x2 x3 b1 b2 hw
theorem sg_X2_badShelves : ySg yX2_badShelves 0 = true := by decide +kernel
theorem c_X2_badShelves (G : gT) (l : Launch) (mc ms : Nat) (a0 : Nat) (h : Hp) (Q : Int32 → Hp → Prop) (hw : w_X2_badShelves mc ms a0 h Q) : Ct G l yX2_badShelves (ws_ yX2_badShelves cX2_badShelves 4 (some .int)) 12 262 mc ms [.ref a0] h (pI Q) := by
  refine Ct.of (own := RX2) false (by decide +kernel) rfl (show (_ : Nat) ≤ _ from Nat.le_of_ble_eq_true rfl) (fun z => by cases z) (fun V C => ?_)
  show V h 0 0 0 [(0, .ref a0)] []
  unfold w_X2_badShelves at hw
  refine r_aload_n C rfl 0 rfl dX2_badShelves_0 ?_
  obtain ⟨hq12, hw⟩ := hw
  obtain ⟨k15, k16, hp17, hp18, hw⟩ := hw
  refine r_callV (ci := 1) (rest := []) (As := []) C sg_X2_fakes rfl rfl q1383 q1384 q1385 q78 q1386 rfl (Nat.le_of_ble_eq_true rfl) dX2_badShelves_1 rfl hq12 hp17 hp18 (c_X2_fakes G l k15 k16 a0 h _ hw) (k_R (fun r13 h14 hw => ?_))
  refine r_astore_nO (x := r13) (L' := [(1, va_rf r13), (0, .ref a0)]) C rfl (by decide) rfl dX2_badShelves_4 (r_iconst (v := (0 : Int32)) C (by decide) dX2_badShelves_5 (r_istore_n (L' := [(2, .int (0 : Int32)), (1, va_rf r13), (0, .ref a0)]) C rfl (by decide) (by rcases r13 with _ | _ <;> rfl) dX2_badShelves_6 (r_iconst (v := (0 : Int32)) C (by decide) dX2_badShelves_7 (r_istore_n (L' := [(3, .int (0 : Int32)), (2, .int (0 : Int32)), (1, va_rf r13), (0, .ref a0)]) C rfl (by decide) rfl dX2_badShelves_8 ?_))))
  obtain ⟨k9, hw⟩ := hw
  exact r_sub C [3, 2, 1, 0] rfl (b_X2_badShelves_9 C _ _ _ _ _ _ _ _ hp17 hp18 hw)
def w_X2_endOf (a0 : Nat) (i1 : Int32) (h : Hp) (Q : Int32 → Hp → Prop) : Prop :=
  gfR h a0 1 0 (fun v1 => nn v1 (fun y2 => hasC h y2 8 ∧ (wj_J2_size y2 h (fun r4 h5 => (¬ i1 = (r4 - (1 : Int32)) → gfR h5 a0 1 0 (fun v7 => nn v7 (fun y8 => hasC h5 y8 8 ∧ (wj_J2_get y8 (i1 + (1 : Int32)) h5 (fun r10 h11 => (∀ z12 : Nat, r10 = some z12 → hasC h11 z12 3) ∧ (nn r10 (fun y14 => gfI h11 y14 3 0 (fun v15 => Q (v15 - (1 : Int32)) h11)))))))) ∧ (i1 = (r4 - (1 : Int32)) → Q (1999 : Int32) h5)))))
theorem sg_X2_endOf : ySg yX2_endOf 1 = true := by decide +kernel
theorem c_X2_endOf (G : gT) (l : Launch) (a0 : Nat) (i1 : Int32) (h : Hp) (Q : Int32 → Hp → Prop) (hw : w_X2_endOf a0 i1 h Q) : Ct G l yX2_endOf (ws_ yX2_endOf cX2_endOf 2 (some .int)) 4 76 0 0 [.ref a0, .int i1] h (pI Q) := by
  refine Ct.of (own := RX2) false (by decide +kernel) rfl (show (_ : Nat) ≤ _ from Nat.le_of_ble_eq_true rfl) (fun z => by cases z) (fun V C => ?_)
  show V h 0 0 0 [(0, .ref a0), (1, .int i1)] []
  unfold w_X2_endOf at hw
  refine r_iload_n C rfl 1 rfl dX2_endOf_0 (r_aload_n C rfl 0 rfl dX2_endOf_1 ?_)
  refine r_gfR (k := 0) C kX2 (by decide) (Or.inl q301) (Or.inl rfl) dX2_endOf_2 hw (fun v1 hw => ?_)
  obtain ⟨y2, rfl, hw_y2⟩ := hw
  have hw := hw_y2
  obtain ⟨hq3, hw⟩ := hw
  refine r_callF (ci := 8) (rest := [.int i1]) (As := []) C (x := ⟨"java/util/List", "size", "()I"⟩) (show ySg ⟨"java/util/List", "size", "()I"⟩ 0 = true by decide +kernel) rfl q411 q414 q416 q81 q418 (List.mem_of_getElem? (i := 2) rfl) rfl (Nat.le_of_ble_eq_true rfl) dX2_endOf_5 rfl hq3 (Nat.le_refl _) (Nat.le_refl _) (cj_J2_size G l y2 h _ hw) (k_I (fun r4 h5 hw => ?_))
  refine r_iconst (v := (1 : Int32)) C (by decide) dX2_endOf_10 (r_isub C dX2_endOf_11 ?_)
  refine r_icmp_ne (tgt := 21) C (by decide) dX2_endOf_12 (fun hc6 => ?_) (fun hc6 => ?_)
  · have hw := hw.1 hc6
    refine r_aload_n C rfl 0 rfl dX2_endOf_21 ?_
    refine r_gfR (k := 0) C kX2 (by decide) (Or.inl q301) (Or.inl rfl) dX2_endOf_22 hw (fun v7 hw => ?_)
    refine r_iload_n C rfl 1 rfl dX2_endOf_25 (r_iconst (v := (1 : Int32)) C (by decide) dX2_endOf_26 (r_iadd C dX2_endOf_27 ?_))
    obtain ⟨y8, rfl, hw_y8⟩ := hw
    have hw := hw_y8
    obtain ⟨hq9, hw⟩ := hw
    refine r_callF (ci := 8) (rest := []) (As := [.int (i1 + (1 : Int32))]) C (x := ⟨"java/util/List", "get", "(I)Ljava/lang/Object;"⟩) (show ySg ⟨"java/util/List", "get", "(I)Ljava/lang/Object;"⟩ 1 = true by decide +kernel) rfl q450 q453 q455 q81 q457 (List.mem_of_getElem? (i := 6) rfl) rfl (Nat.le_of_ble_eq_true rfl) dX2_endOf_28 rfl hq9 (Nat.le_refl _) (Nat.le_refl _) (cj_J2_get G l y8 (i1 + (1 : Int32)) h5 _ hw) (k_R (fun r10 h11 hw => ?_))
    obtain ⟨e13, hw⟩ := hw
    refine r_cast (x := r10) C (ci := 3) rfl q803 dX2_endOf_33 e13 ?_
    obtain ⟨y14, rfl, hw_y14⟩ := hw
    have hw := hw_y14
    refine r_gfI (k := 0) C kX4 (by decide) (Or.inr ⟨_, (List.mem_of_getElem? (i := 12) rfl)⟩) (Or.inl rfl) dX2_endOf_36 hw (fun v15 hw => ?_)
    refine r_iconst (v := (1 : Int32)) C (by decide) dX2_endOf_39 (r_isub C dX2_endOf_40 ?_)
    exact r_ireturn C dX2_endOf_41 (Nat.le_refl _) (Nat.le_refl _) ⟨_, rfl, hw⟩
  · have hw := hw.2 hc6
    refine r_sipush (v := (1999 : Int32)) C (by decide) dX2_endOf_15 (r_goto (tgt := 41) C (by decide) dX2_endOf_18 ?_)
    exact r_ireturn C dX2_endOf_41 (Nat.le_refl _) (Nat.le_refl _) ⟨_, rfl, hw⟩
def S_X2_shelfOf_2 (mc ms : Nat) (Q : Int32 → Hp → Prop) (LA2 : Hp → Nat → Nat → Nat → Int32 → Int32 → Prop) (h : Hp) (c : Nat) (n : Nat) (x0 : Nat) (x1 : Int32) (x2 : Int32) : Prop :=
  ((6 : Int32) ≤ x2 → Q (-1 : Int32) h) ∧ (¬ (6 : Int32) ≤ x2 → gfR h x0 1 3 (fun v2 => nn v2 (fun y3 => hasC h y3 8 ∧ (wj_J2_get y3 x2 h (fun r5 h6 => (∀ z7 : Nat, r5 = some z7 → hasC h6 z7 9) ∧ (∃ k11 k12 : Nat, c + k11 ≤ mc ∧ n + k12 ≤ ms ∧ (wj_J24_valueOf k11 k12 x1 h6 (fun r9 h10 => nn r5 (fun y15 => nn r9 (fun y16 => hasC h10 y15 9 ∧ (wj_J4_contains y15 y16 h10 (fun r18 h19 => (r18 = false → LA2 h19 (c + k11) (n + k12) x0 x1 (x2 + (1 : Int32))) ∧ (r18 = true → Q x2 h19)))))))))))))
def B_X2_shelfOf_2 (mc ms : Nat) (Q : Int32 → Hp → Prop) : Nat → Hp → Nat → Nat → Nat → Int32 → Int32 → Prop
  | 0, _, _, _, _, _, _ => False
  | k + 1, h, c, n, x0, x1, x2 => S_X2_shelfOf_2 mc ms Q (B_X2_shelfOf_2 mc ms Q k) h c n x0 x1 x2
def w_X2_shelfOf (mc ms : Nat) (a0 : Nat) (i1 : Int32) (h : Hp) (Q : Int32 → Hp → Prop) : Prop :=
  ∃ k9 : Nat, B_X2_shelfOf_2 mc ms Q k9 h 0 0 a0 i1 (0 : Int32)
theorem s_X2_shelfOf_2 {G : gT} {l : Launch} {V : Hp → Nat → Nat → Nat → List (Nat × Value) → List Value → Prop} {mc ms : Nat} {Q : Int32 → Hp → Prop} (C : Cx G l V cX2_shelfOf 3 RX2 5 97 mc ms (pI Q) none (some .int) [] false) (LA2 : Hp → Nat → Nat → Nat → Int32 → Int32 → Prop) (hLA2 : ∀ (h : Hp) (c : Nat) (n : Nat) (x0 : Nat) (x1 : Int32) (x2 : Int32), c ≤ mc → n ≤ ms → LA2 h c n x0 x1 x2 → V h c n 2 [(0, .ref x0), (1, .int x1), (2, .int x2)] []) (h : Hp) (c : Nat) (n : Nat) (x0 : Nat) (x1 : Int32) (x2 : Int32) (b1 : c ≤ mc) (b2 : n ≤ ms) (hw : S_X2_shelfOf_2 mc ms Q LA2 h c n x0 x1 x2) : V h c n 2 [(0, .ref x0), (1, .int x1), (2, .int x2)] [] := by
  unfold S_X2_shelfOf_2 at hw
  refine r_iload_n C rfl 2 rfl dX2_shelfOf_2 (r_bipush (v := (6 : Int32)) C (by decide) dX2_shelfOf_3 ?_)
  refine r_icmp_ge (tgt := 39) C (by decide) dX2_shelfOf_5 (fun hc1 => ?_) (fun hc1 => ?_)
  · have hw := hw.1 hc1
    refine r_iconst (v := (-1 : Int32)) C (by decide) dX2_shelfOf_39 ?_
    exact r_ireturn C dX2_shelfOf_40 b1 b2 ⟨_, rfl, hw⟩
  · have hw := hw.2 hc1
    refine r_aload_n C rfl 0 rfl dX2_shelfOf_8 ?_
    refine r_gfR (k := 3) C kX2 (by decide) (Or.inl q308) (Or.inl rfl) dX2_shelfOf_9 hw (fun v2 hw => ?_)
    refine r_iload_n C rfl 2 rfl dX2_shelfOf_12 ?_
    obtain ⟨y3, rfl, hw_y3⟩ := hw
    have hw := hw_y3
    obtain ⟨hq4, hw⟩ := hw
    refine r_callF (ci := 8) (rest := []) (As := [.int x2]) C (x := ⟨"java/util/List", "get", "(I)Ljava/lang/Object;"⟩) (show ySg ⟨"java/util/List", "get", "(I)Ljava/lang/Object;"⟩ 1 = true by decide +kernel) rfl q450 q453 q455 q81 q457 (List.mem_of_getElem? (i := 6) rfl) rfl (Nat.le_of_ble_eq_true rfl) dX2_shelfOf_13 rfl hq4 b1 b2 (cj_J2_get G l y3 x2 h _ hw) (k_R (fun r5 h6 hw => ?_))
    obtain ⟨e8, hw⟩ := hw
    refine r_cast (x := r5) C (ci := 9) rfl q169 dX2_shelfOf_18 e8 ?_
    refine r_iload_n C rfl 1 rfl dX2_shelfOf_21 ?_
    obtain ⟨k11, k12, hp13, hp14, hw⟩ := hw
    refine r_callS (rest := [va_rf r5]) (As := [.int x1]) C sg_J24_valueOf q978 q896 q105 q897 rfl (by rcases r5 with _ | _ <;> exact Nat.le_of_ble_eq_true rfl) dX2_shelfOf_22 rfl hp13 hp14 (cj_J24_valueOf G l k11 k12 x1 h6 _ hw) (k_R (fun r9 h10 hw => ?_))
    obtain ⟨y15, rfl, hw_y15⟩ := hw
    have hw := hw_y15
    obtain ⟨y16, rfl, hw_y16⟩ := hw
    have hw := hw_y16
    obtain ⟨hq17, hw⟩ := hw
    refine r_callV (ci := 9) (rest := []) (As := [.ref y16]) C sg_J4_contains rfl rfl q1640 q966 q2650 q83 q968 rfl (Nat.le_of_ble_eq_true rfl) dX2_shelfOf_25 rfl hq17 hp13 hp14 (cj_J4_contains G l y15 y16 h10 _ hw) (k_Z (fun r18 h19 hw => ?_))
    refine r_if_eq_b (tgt := 33) C (by decide) dX2_shelfOf_28 (fun hc20 => ?_) (fun hc20 => ?_)
    · have hw := hw.1 hc20
      refine r_iinc (v := x2 + (1 : Int32)) (L' := [(2, .int (x2 + (1 : Int32))), (0, .ref x0), (1, .int x1)]) C (u := 2) rfl (by rfl) (by decide) rfl dX2_shelfOf_33 (r_goto (tgt := 2) C (by decide) dX2_shelfOf_36 ?_)
      exact r_sub C [1, 2, 0] rfl (hLA2 _ _ _ _ _ _ hp13 hp14 hw)
    · have hw := hw.2 hc20
      refine r_iload_n C rfl 2 rfl dX2_shelfOf_31 ?_
      exact r_ireturn C dX2_shelfOf_32 hp13 hp14 ⟨_, rfl, hw⟩
theorem b_X2_shelfOf_2 {G : gT} {l : Launch} {V : Hp → Nat → Nat → Nat → List (Nat × Value) → List Value → Prop} {mc ms : Nat} {Q : Int32 → Hp → Prop} (C : Cx G l V cX2_shelfOf 3 RX2 5 97 mc ms (pI Q) none (some .int) [] false) : ∀ (k : Nat) (h : Hp) (c : Nat) (n : Nat) (x0 : Nat) (x1 : Int32) (x2 : Int32), c ≤ mc → n ≤ ms → B_X2_shelfOf_2 mc ms Q k h c n x0 x1 x2 → V h c n 2 [(0, .ref x0), (1, .int x1), (2, .int x2)] [] := by
  intro k
  induction k with
  | zero =>
    intro h c n x0 x1 x2 b1 b2 hw
    exact hw.elim
  | succ k ih =>
    intro h c n x0 x1 x2 b1 b2 hw
    exact s_X2_shelfOf_2 C _ (fun h c n x0 x1 x2 b1 b2 hw => ih h c n x0 x1 x2 b1 b2 hw) h c n x0 x1 x2 b1 b2 hw
theorem sg_X2_shelfOf : ySg yX2_shelfOf 1 = true := by decide +kernel
theorem c_X2_shelfOf (G : gT) (l : Launch) (mc ms : Nat) (a0 : Nat) (i1 : Int32) (h : Hp) (Q : Int32 → Hp → Prop) (hw : w_X2_shelfOf mc ms a0 i1 h Q) : Ct G l yX2_shelfOf (ws_ yX2_shelfOf cX2_shelfOf 3 (some .int)) 5 97 mc ms [.ref a0, .int i1] h (pI Q) := by
  refine Ct.of (own := RX2) false (by decide +kernel) rfl (show (_ : Nat) ≤ _ from Nat.le_of_ble_eq_true rfl) (fun z => by cases z) (fun V C => ?_)
  show V h 0 0 0 [(0, .ref a0), (1, .int i1)] []
  unfold w_X2_shelfOf at hw
  refine r_iconst (v := (0 : Int32)) C (by decide) dX2_shelfOf_0 (r_istore_n (L' := [(2, .int (0 : Int32)), (0, .ref a0), (1, .int i1)]) C rfl (by decide) rfl dX2_shelfOf_1 ?_)
  obtain ⟨k9, hw⟩ := hw
  exact r_sub C [1, 2, 0] rfl (b_X2_shelfOf_2 C _ _ _ _ _ _ _ (Nat.zero_le _) (Nat.zero_le _) hw)
def w_X2_fake (mc ms : Nat) (a0 : Nat) (i1 : Int32) (h : Hp) (Q : Int32 → Hp → Prop) : Prop :=
  hasC h a0 1 ∧ (∃ k4 k5 : Nat, 0 + k4 ≤ mc ∧ 0 + k5 ≤ ms ∧ (w_X2_alone k4 k5 a0 i1 h (fun r2 h3 => gfR h3 a0 1 2 (fun v8 => nn v8 (fun y9 => hasC h3 y9 8 ∧ (wj_J2_get y9 i1 h3 (fun r11 h12 => (∀ z13 : Nat, r11 = some z13 → hasC h12 z13 5) ∧ (nn r11 (fun y15 => gfI h12 y15 5 5 (fun v16 => (0 < r2 → Q r2 h12) ∧ (¬ 0 < r2 → (v16 = (-1 : Int32) → Q r2 h12) ∧ (¬ v16 = (-1 : Int32) → hasC h12 a0 1 ∧ (∃ k22 k23 : Nat, (0 + k4) + k22 ≤ mc ∧ (0 + k5) + k23 ≤ ms ∧ (w_X2_yearsOf k22 k23 a0 v16 (-1 : Int32) h12 (fun r20 h21 => nn r20 (fun y26 => hasC h21 y26 15 ∧ (wj_J30_isEmpty y26 h21 (fun r28 h29 => Q (if r28 = true then (4 : Int32) else r2) h29))))))))))))))))))
theorem sg_X2_fake : ySg yX2_fake 1 = true := by decide +kernel
theorem c_X2_fake (G : gT) (l : Launch) (mc ms : Nat) (a0 : Nat) (i1 : Int32) (h : Hp) (Q : Int32 → Hp → Prop) (hw : w_X2_fake mc ms a0 i1 h Q) : Ct G l yX2_fake (ws_ yX2_fake cX2_fake 4 (some .int)) 11 238 mc ms [.ref a0, .int i1] h (pI Q) := by
  refine Ct.of (own := RX2) false (by decide +kernel) rfl (show (_ : Nat) ≤ _ from Nat.le_of_ble_eq_true rfl) (fun z => by cases z) (fun V C => ?_)
  show V h 0 0 0 [(0, .ref a0), (1, .int i1)] []
  unfold w_X2_fake at hw
  refine r_aload_n C rfl 0 rfl dX2_fake_0 (r_iload_n C rfl 1 rfl dX2_fake_1 ?_)
  obtain ⟨hq1, hw⟩ := hw
  obtain ⟨k4, k5, hp6, hp7, hw⟩ := hw
  refine r_callV (ci := 1) (rest := []) (As := [.int i1]) C sg_X2_alone rfl rfl q1416 q1418 qs24 q78 q1419 rfl (Nat.le_of_ble_eq_true rfl) dX2_fake_2 rfl hq1 hp6 hp7 (c_X2_alone G l k4 k5 a0 i1 h _ hw) (k_I (fun r2 h3 hw => ?_))
  refine r_istore_n (L' := [(2, .int r2), (0, .ref a0), (1, .int i1)]) C rfl (by decide) rfl dX2_fake_5 (r_aload_n C rfl 1 rfl dX2_fake_6 ?_)
  refine r_gfR (k := 2) C kX2 (by decide) (Or.inl q305) (Or.inl rfl) dX2_fake_7 hw (fun v8 hw => ?_)
  refine r_iload_n C rfl 2 rfl dX2_fake_10 ?_
  obtain ⟨y9, rfl, hw_y9⟩ := hw
  have hw := hw_y9
  obtain ⟨hq10, hw⟩ := hw
  refine r_callF (ci := 8) (rest := []) (As := [.int i1]) C (x := ⟨"java/util/List", "get", "(I)Ljava/lang/Object;"⟩) (show ySg ⟨"java/util/List", "get", "(I)Ljava/lang/Object;"⟩ 1 = true by decide +kernel) rfl q450 q453 q455 q81 q457 (List.mem_of_getElem? (i := 6) rfl) rfl (Nat.le_of_ble_eq_true rfl) dX2_fake_11 rfl hq10 hp6 hp7 (cj_J2_get G l y9 i1 h3 _ hw) (k_R (fun r11 h12 hw => ?_))
  obtain ⟨e14, hw⟩ := hw
  refine r_cast (x := r11) C (ci := 5) rfl q992 dX2_fake_16 e14 ?_
  obtain ⟨y15, rfl, hw_y15⟩ := hw
  have hw := hw_y15
  refine r_gfI (k := 5) C kX6 (by decide) (Or.inr ⟨_, (List.mem_of_getElem? (i := 39) rfl)⟩) (Or.inl rfl) dX2_fake_19 hw (fun v16 hw => ?_)
  refine r_istore_n (L' := [(3, .int v16), (2, .int r2), (0, .ref a0), (1, .int i1)]) C rfl (by decide) rfl dX2_fake_22 (r_iload_n C rfl 1 rfl dX2_fake_23 ?_)
  refine r_if_gt (tgt := 44) C (by decide) dX2_fake_24 (fun hc17 => ?_) (fun hc17 => ?_)
  · have hw := hw.1 hc17
    refine r_iload_n C rfl 1 rfl dX2_fake_44 (r_goto (tgt := 49) C (by decide) dX2_fake_45 ?_)
    exact r_ireturn C dX2_fake_49 hp6 hp7 ⟨_, rfl, hw⟩
  · have hw := hw.2 hc17
    refine r_iload_n C rfl 0 rfl dX2_fake_27 (r_iconst (v := (-1 : Int32)) C (by decide) dX2_fake_28 ?_)
    refine r_icmp_eq (tgt := 44) C (by decide) dX2_fake_29 (fun hc18 => ?_) (fun hc18 => ?_)
    · have hw := hw.1 hc18
      refine r_iload_n C rfl 1 rfl dX2_fake_44 (r_goto (tgt := 49) C (by decide) dX2_fake_45 ?_)
      exact r_ireturn C dX2_fake_49 hp6 hp7 ⟨_, rfl, hw⟩
    · have hw := hw.2 hc18
      refine r_aload_n C rfl 2 rfl dX2_fake_32 (r_iload_n C rfl 0 rfl dX2_fake_33 (r_iconst (v := (-1 : Int32)) C (by decide) dX2_fake_34 ?_))
      obtain ⟨hq19, hw⟩ := hw
      obtain ⟨k22, k23, hp24, hp25, hw⟩ := hw
      refine r_callV (ci := 1) (rest := []) (As := [.int v16, .int (-1 : Int32)]) C sg_X2_yearsOf rfl rfl q1387 q1388 q1389 q78 q1390 rfl (Nat.le_of_ble_eq_true rfl) dX2_fake_35 rfl hq19 hp24 hp25 (c_X2_yearsOf G l k22 k23 a0 v16 (-1 : Int32) h12 _ hw) (k_R (fun r20 h21 hw => ?_))
      obtain ⟨y26, rfl, hw_y26⟩ := hw
      have hw := hw_y26
      obtain ⟨hq27, hw⟩ := hw
      refine r_callV (ci := 15) (rest := []) (As := []) C sg_J30_isEmpty rfl rfl q1510 q1511 q1512 q116 q1513 rfl (Nat.le_of_ble_eq_true rfl) dX2_fake_38 rfl hq27 hp24 hp25 (cj_J30_isEmpty G l y26 h21 _ hw) (k_Z (fun r28 h29 hw => ?_))
      have hJ : V h29 ((0 + k4) + k22) ((0 + k5) + k23) 49 [] [.int (if r28 = true then (4 : Int32) else r2)] := by
        exact r_ireturn C dX2_fake_49 hp24 hp25 ⟨_, rfl, hw⟩
      refine r_if_ne_b (tgt := 48) C (by decide) dX2_fake_41 (fun hc30 => ?_) (fun hc30 => ?_)
      · have hJ31 := hJ
        try simp only [if_pos hc30] at hJ31
        refine r_iconst (v := (4 : Int32)) C (by decide) dX2_fake_48 ?_
        exact r_sub C [] rfl hJ31
      · have hJ31 := hJ
        try simp only [if_neg (show ¬ r28 = true from by rw [hc30]; decide)] at hJ31
        refine r_iload_n C rfl 1 rfl dX2_fake_44 (r_goto (tgt := 49) C (by decide) dX2_fake_45 ?_)
        exact r_sub C [] rfl hJ31
def S_X5_copy_30 (mc ms : Nat) (Q : Option Nat → Hp → Prop) (LA30 : Hp → Nat → Nat → Nat → (Option Nat) → Prop) (h : Hp) (c : Nat) (n : Nat) (x1 : Nat) (x2 : Option Nat) : Prop :=
  nn x2 (fun y1 => hasC h y1 13 ∧ (wj_J25_hasNext y1 h (fun r3 h4 => (r3 = false → Q (some x1) h4) ∧ (r3 = true → hasC h4 y1 13 ∧ (wj_J25_next y1 h4 (fun r7 h8 => (∀ z9 : Nat, r7 = some z9 → hasC h8 z9 12) ∧ (nn r7 (fun y11 => hasC h8 y11 12 ∧ (wj_J24_intValue y11 h8 (fun r13 h14 => gfR h14 x1 4 3 (fun v15 => ∃ k18 k19 : Nat, c + k18 ≤ mc ∧ n + k19 ≤ ms ∧ (wj_J24_valueOf k18 k19 r13 h14 (fun r16 h17 => nn v15 (fun y22 => nn r16 (fun y23 => hasC h17 y22 8 ∧ (∃ k27 k28 : Nat, (c + k18) + k27 ≤ mc ∧ (n + k19) + k28 ≤ ms ∧ (wj_J2_add k27 k28 y22 y23 h17 (fun r25 h26 => LA30 h26 ((c + k18) + k27) ((n + k19) + k28) x1 (some y1)))))))))))))))))))
def B_X5_copy_30 (mc ms : Nat) (Q : Option Nat → Hp → Prop) : Nat → Hp → Nat → Nat → Nat → (Option Nat) → Prop
  | 0, _, _, _, _, _ => False
  | k + 1, h, c, n, x1, x2 => S_X5_copy_30 mc ms Q (B_X5_copy_30 mc ms Q k) h c n x1 x2
def w_X5_copy (mc ms : Nat) (a0 : Nat) (h : Hp) (Q : Option Nat → Hp → Prop) : Prop :=
  0 + 1 ≤ mc ∧ 0 + 4 ≤ ms ∧ (nwO h 4 [.int 0, .int 0, .int 0, .null] (fun q33 h34 => gfI h34 a0 4 0 (fun v35 => gfI h34 a0 4 1 (fun v36 => gfI h34 a0 4 2 (fun v37 => ∃ k40 k41 : Nat, (0 + 1) + k40 ≤ mc ∧ (0 + 4) + k41 ≤ ms ∧ (w_X5_init k40 k41 q33 v35 v36 v37 h34 (fun h39 => gfR h39 a0 4 3 (fun v44 => nn v44 (fun y45 => hasC h39 y45 8 ∧ (∃ k49 k50 : Nat, ((0 + 1) + k40) + k49 ≤ mc ∧ ((0 + 4) + k41) + k50 ≤ ms ∧ (wj_J2_iterator k49 k50 y45 h39 (fun r47 h48 => ∃ k9 : Nat, B_X5_copy_30 mc ms Q k9 h48 (((0 + 1) + k40) + k49) (((0 + 4) + k41) + k50) q33 r47))))))))))))
theorem s_X5_copy_30 {G : gT} {l : Launch} {V : Hp → Nat → Nat → Nat → List (Nat × Value) → List Value → Prop} {mc ms : Nat} {Q : Option Nat → Hp → Prop} (C : Cx G l V cX5_copy 4 RX5 7 191 mc ms (pR Q) none (some (.object "CordSeals$Die")) [] false) (LA30 : Hp → Nat → Nat → Nat → (Option Nat) → Prop) (hLA30 : ∀ (h : Hp) (c : Nat) (n : Nat) (x1 : Nat) (x2 : Option Nat), c ≤ mc → n ≤ ms → LA30 h c n x1 x2 → V h c n 30 [(1, .ref x1), (2, va_rf x2)] []) (h : Hp) (c : Nat) (n : Nat) (x1 : Nat) (x2 : Option Nat) (b1 : c ≤ mc) (b2 : n ≤ ms) (hw : S_X5_copy_30 mc ms Q LA30 h c n x1 x2) : V h c n 30 [(1, .ref x1), (2, va_rf x2)] [] := by
  unfold S_X5_copy_30 at hw
  refine r_aload_nO C rfl 1 rfl dX5_copy_30 ?_
  obtain ⟨y1, rfl, hw_y1⟩ := hw
  have hw := hw_y1
  obtain ⟨hq2, hw⟩ := hw
  refine r_callF (ci := 13) (rest := []) (As := []) C (x := ⟨"java/util/Iterator", "hasNext", "()Z"⟩) (show ySg ⟨"java/util/Iterator", "hasNext", "()Z"⟩ 0 = true by decide +kernel) rfl q1776 q1183 q1185 q110 q1187 (List.mem_of_getElem? (i := 14) rfl) rfl (Nat.le_of_ble_eq_true rfl) dX5_copy_31 rfl hq2 b1 b2 (cj_J25_hasNext G l y1 h _ hw) (k_Z (fun r3 h4 hw => ?_))
  refine r_if_eq_b (tgt := 69) C (by decide) dX5_copy_36 (fun hc5 => ?_) (fun hc5 => ?_)
  · have hw := hw.1 hc5
    refine r_aload_n C rfl 0 rfl dX5_copy_69 ?_
    exact r_areturn (x := some x1) C (by first | exact Or.inl ⟨_, rfl⟩ | exact Or.inr ⟨_, rfl⟩) dX5_copy_70 b1 b2 ⟨_, rfl, hw⟩
  · have hw := hw.2 hc5
    refine r_aload_n C rfl 1 rfl dX5_copy_39 ?_
    obtain ⟨hq6, hw⟩ := hw
    refine r_callF (ci := 13) (rest := []) (As := []) C (x := ⟨"java/util/Iterator", "next", "()Ljava/lang/Object;"⟩) (show ySg ⟨"java/util/Iterator", "next", "()Ljava/lang/Object;"⟩ 0 = true by decide +kernel) rfl q1778 q1298 q1300 q110 q1302 (List.mem_of_getElem? (i := 19) rfl) rfl (Nat.le_of_ble_eq_true rfl) dX5_copy_40 rfl hq6 b1 b2 (cj_J25_next G l y1 h4 _ hw) (k_R (fun r7 h8 hw => ?_))
    obtain ⟨e10, hw⟩ := hw
    refine r_cast (x := r7) C (ci := 12) rfl q1779 dX5_copy_45 e10 ?_
    obtain ⟨y11, rfl, hw_y11⟩ := hw
    have hw := hw_y11
    obtain ⟨hq12, hw⟩ := hw
    refine r_callV (ci := 12) (rest := []) (As := []) C sg_J24_intValue rfl rfl q1780 q952 q953 q105 q954 rfl (Nat.le_of_ble_eq_true rfl) dX5_copy_48 rfl hq12 b1 b2 (cj_J24_intValue G l y11 h8 _ hw) (k_I (fun r13 h14 hw => ?_))
    refine r_istore_n (L' := [(3, .int r13), (1, .ref x1), (2, .ref y1)]) C rfl (by decide) rfl dX5_copy_51 (r_aload_n C rfl 1 rfl dX5_copy_52 ?_)
    refine r_gfR (k := 3) C kX5 (by decide) (Or.inl q864) (Or.inl rfl) dX5_copy_53 hw (fun v15 hw => ?_)
    refine r_iload_n C rfl 0 rfl dX5_copy_56 ?_
    obtain ⟨k18, k19, hp20, hp21, hw⟩ := hw
    refine r_callS (rest := [va_rf v15]) (As := [.int r13]) C sg_J24_valueOf q895 q896 q105 q897 rfl (by rcases v15 with _ | _ <;> exact Nat.le_of_ble_eq_true rfl) dX5_copy_57 rfl hp20 hp21 (cj_J24_valueOf G l k18 k19 r13 h14 _ hw) (k_R (fun r16 h17 hw => ?_))
    obtain ⟨y22, rfl, hw_y22⟩ := hw
    have hw := hw_y22
    obtain ⟨y23, rfl, hw_y23⟩ := hw
    have hw := hw_y23
    obtain ⟨hq24, hw⟩ := hw
    obtain ⟨k27, k28, hp29, hp30, hw⟩ := hw
    refine r_callF (ci := 8) (rest := []) (As := [.ref y23]) C (x := ⟨"java/util/List", "add", "(Ljava/lang/Object;)Z"⟩) (show ySg ⟨"java/util/List", "add", "(Ljava/lang/Object;)Z"⟩ 1 = true by decide +kernel) rfl q1782 q196 q198 q81 q200 (List.mem_of_getElem? (i := 0) rfl) rfl (Nat.le_of_ble_eq_true rfl) dX5_copy_60 rfl hq24 hp29 hp30 (cj_J2_add G l k27 k28 y22 y23 h17 _ hw) (k_Z (fun r25 h26 hw => ?_))
    refine r_pop C rfl dX5_copy_65 (r_goto (tgt := 30) C (by decide) dX5_copy_66 ?_)
    exact r_sub C [1, 2] rfl (hLA30 _ _ _ _ _ hp29 hp30 hw)
theorem b_X5_copy_30 {G : gT} {l : Launch} {V : Hp → Nat → Nat → Nat → List (Nat × Value) → List Value → Prop} {mc ms : Nat} {Q : Option Nat → Hp → Prop} (C : Cx G l V cX5_copy 4 RX5 7 191 mc ms (pR Q) none (some (.object "CordSeals$Die")) [] false) : ∀ (k : Nat) (h : Hp) (c : Nat) (n : Nat) (x1 : Nat) (x2 : Option Nat), c ≤ mc → n ≤ ms → B_X5_copy_30 mc ms Q k h c n x1 x2 → V h c n 30 [(1, .ref x1), (2, va_rf x2)] [] := by
  intro k
  induction k with
  | zero =>
    intro h c n x1 x2 b1 b2 hw
    exact hw.elim
  | succ k ih =>
    intro h c n x1 x2 b1 b2 hw
    exact s_X5_copy_30 C _ (fun h c n x1 x2 b1 b2 hw => ih h c n x1 x2 b1 b2 hw) h c n x1 x2 b1 b2 hw
theorem sg_X5_copy : ySg yX5_copy 0 = true := by decide +kernel
theorem c_X5_copy (G : gT) (l : Launch) (mc ms : Nat) (a0 : Nat) (h : Hp) (Q : Option Nat → Hp → Prop) (hw : w_X5_copy mc ms a0 h Q) : Ct G l yX5_copy (ws_ yX5_copy cX5_copy 4 (some (.object "CordSeals$Die"))) 7 191 mc ms [.ref a0] h (pR Q) := by
  refine Ct.of (own := RX5) false (by decide +kernel) rfl (show (_ : Nat) ≤ _ from Nat.le_of_ble_eq_true rfl) (fun z => by cases z) (fun V C => ?_)
  show V h 0 0 0 [(0, .ref a0)] []
  unfold w_X5_copy at hw
  obtain ⟨hp31, hp32, hw⟩ := hw
  refine r_new C kX5 q1771 q848 q107 df_4 dX5_copy_0 hp31 hp32 hw (fun q33 h34 hw => ?_)
  refine r_dup C rfl dX5_copy_3 (r_aload_n C rfl 0 rfl dX5_copy_4 ?_)
  refine r_gfI (k := 0) C kX5 (by decide) (Or.inl q855) (Or.inl rfl) dX5_copy_5 hw (fun v35 hw => ?_)
  refine r_aload_n C rfl 0 rfl dX5_copy_8 ?_
  refine r_gfI (k := 1) C kX5 (by decide) (Or.inl q858) (Or.inl rfl) dX5_copy_9 hw (fun v36 hw => ?_)
  refine r_aload_n C rfl 0 rfl dX5_copy_12 ?_
  refine r_gfI (k := 2) C kX5 (by decide) (Or.inl q861) (Or.inl rfl) dX5_copy_13 hw (fun v37 hw => ?_)
  obtain ⟨k40, k41, hp42, hp43, hw⟩ := hw
  refine r_callI (rest := [.ref q33]) (As := [.int v35, .int v36, .int v37]) C sg_X5_init rfl q1772 q850 q107 q851 rfl (Nat.le_of_ble_eq_true rfl) dX5_copy_16 rfl hp42 hp43 (c_X5_init G l k40 k41 q33 v35 v36 v37 h34 _ hw) (k_V (fun h39 hw => ?_))
  refine r_astore_n (L' := [(1, .ref q33), (0, .ref a0)]) C rfl (by decide) rfl dX5_copy_19 (r_aload_n C rfl 1 rfl dX5_copy_20 ?_)
  refine r_gfR (k := 3) C kX5 (by decide) (Or.inl q864) (Or.inl rfl) dX5_copy_21 hw (fun v44 hw => ?_)
  obtain ⟨y45, rfl, hw_y45⟩ := hw
  have hw := hw_y45
  obtain ⟨hq46, hw⟩ := hw
  obtain ⟨k49, k50, hp51, hp52, hw⟩ := hw
  refine r_callF (ci := 8) (rest := []) (As := []) C (x := ⟨"java/util/List", "iterator", "()Ljava/util/Iterator;"⟩) (show ySg ⟨"java/util/List", "iterator", "()Ljava/util/Iterator;"⟩ 0 = true by decide +kernel) rfl q1774 q1051 q1053 q81 q1055 (List.mem_of_getElem? (i := 10) rfl) rfl (Nat.le_of_ble_eq_true rfl) dX5_copy_24 rfl hq46 hp51 hp52 (cj_J2_iterator G l k49 k50 y45 h39 _ hw) (k_R (fun r47 h48 hw => ?_))
  refine r_astore_nO (x := r47) (L' := [(2, va_rf r47), (1, .ref q33), (0, .ref a0)]) C rfl (by decide) rfl dX5_copy_29 ?_
  obtain ⟨k9, hw⟩ := hw
  exact r_sub C [1, 0] rfl (b_X5_copy_30 C _ _ _ _ _ _ hp51 hp52 hw)
def w_X6_copy (mc ms : Nat) (a0 : Nat) (h : Hp) (Q : Option Nat → Hp → Prop) : Prop :=
  0 + 1 ≤ mc ∧ 0 + 6 ≤ ms ∧ (nwO h 5 [.int 0, .int 0, .int 0, .int 0, .int 0, .int 0] (fun q3 h4 => gfI h4 a0 5 0 (fun v5 => gfI h4 a0 5 1 (fun v6 => gfI h4 a0 5 2 (fun v7 => gfI h4 a0 5 3 (fun v8 => gfI h4 a0 5 4 (fun v9 => w_X6_init q3 v5 v6 v7 v8 v9 h4 (fun h11 => gfI h11 a0 5 5 (fun v12 => pf h11 q3 5 5 (.int v12) (fun h13 => Q (some q3) h13))))))))))
theorem sg_X6_copy : ySg yX6_copy 0 = true := by decide +kernel
theorem c_X6_copy (G : gT) (l : Launch) (mc ms : Nat) (a0 : Nat) (h : Hp) (Q : Option Nat → Hp → Prop) (hw : w_X6_copy mc ms a0 h Q) : Ct G l yX6_copy (ws_ yX6_copy cX6_copy 2 (some (.object "CordSeals$Seal"))) 2 37 mc ms [.ref a0] h (pR Q) := by
  refine Ct.of (own := RX6) false (by decide +kernel) rfl (show (_ : Nat) ≤ _ from Nat.le_of_ble_eq_true rfl) (fun z => by cases z) (fun V C => ?_)
  show V h 0 0 0 [(0, .ref a0)] []
  unfold w_X6_copy at hw
  obtain ⟨hp1, hp2, hw⟩ := hw
  refine r_new C kX6 q1787 q993 q109 df_5 dX6_copy_0 hp1 hp2 hw (fun q3 h4 hw => ?_)
  refine r_dup C rfl dX6_copy_3 (r_aload_n C rfl 0 rfl dX6_copy_4 ?_)
  refine r_gfI (k := 0) C kX6 (by decide) (Or.inl q998) (Or.inl rfl) dX6_copy_5 hw (fun v5 hw => ?_)
  refine r_aload_n C rfl 0 rfl dX6_copy_8 ?_
  refine r_gfI (k := 1) C kX6 (by decide) (Or.inl q1001) (Or.inl rfl) dX6_copy_9 hw (fun v6 hw => ?_)
  refine r_aload_n C rfl 0 rfl dX6_copy_12 ?_
  refine r_gfI (k := 2) C kX6 (by decide) (Or.inl q1004) (Or.inl rfl) dX6_copy_13 hw (fun v7 hw => ?_)
  refine r_aload_n C rfl 0 rfl dX6_copy_16 ?_
  refine r_gfI (k := 3) C kX6 (by decide) (Or.inl q1008) (Or.inl rfl) dX6_copy_17 hw (fun v8 hw => ?_)
  refine r_aload_n C rfl 0 rfl dX6_copy_20 ?_
  refine r_gfI (k := 4) C kX6 (by decide) (Or.inl q1011) (Or.inl rfl) dX6_copy_21 hw (fun v9 hw => ?_)
  refine r_callI (rest := [.ref q3]) (As := [.int v5, .int v6, .int v7, .int v8, .int v9]) C sg_X6_init rfl q1788 q995 q109 q996 rfl (Nat.le_of_ble_eq_true rfl) dX6_copy_24 rfl hp1 hp2 (c_X6_init G l q3 v5 v6 v7 v8 v9 h4 _ hw) (k_V (fun h11 hw => ?_))
  refine r_astore_n (L' := [(1, .ref q3), (0, .ref a0)]) C rfl (by decide) rfl dX6_copy_27 (r_aload_n C rfl 0 rfl dX6_copy_28 (r_aload_n C rfl 1 rfl dX6_copy_29 ?_))
  refine r_gfI (k := 5) C kX6 (by decide) (Or.inl q1015) (Or.inl rfl) dX6_copy_30 hw (fun v12 hw => ?_)
  refine r_pf (k := 5) (v := .int v12) C kX6 (by decide) (Or.inl q1015) (Or.inl rfl) (Or.inl rfl) rfl rfl dX6_copy_33 hw (fun h13 hw => ?_)
  refine r_aload_n C rfl 0 rfl dX6_copy_36 ?_
  exact r_areturn (x := some q3) C (by first | exact Or.inl ⟨_, rfl⟩ | exact Or.inr ⟨_, rfl⟩) dX6_copy_37 hp1 hp2 ⟨_, rfl, hw⟩
def S_X2_copy_168 (mc ms : Nat) (Q : Option Nat → Hp → Prop) (LA145 : Hp → Nat → Nat → Nat → Nat → Int32 → Prop) (LA168 : Hp → Nat → Nat → Nat → Nat → Int32 → (Option Nat) → Prop) (h : Hp) (c : Nat) (n : Nat) (x0 : Nat) (x1 : Nat) (x2 : Int32) (x3 : Option Nat) : Prop :=
  nn x3 (fun y124 => hasC h y124 14 ∧ (wj_J28_hasNext y124 h (fun r126 h127 => (r126 = false → LA145 h127 c n x0 x1 (x2 + (1 : Int32))) ∧ (r126 = true → hasC h127 y124 14 ∧ (wj_J28_next y124 h127 (fun r130 h131 => (∀ z132 : Nat, r130 = some z132 → hasC h131 z132 12) ∧ (nn r130 (fun y134 => hasC h131 y134 12 ∧ (wj_J24_intValue y134 h131 (fun r136 h137 => gfR h137 x1 1 3 (fun v138 => nn v138 (fun y139 => hasC h137 y139 8 ∧ (wj_J2_get y139 x2 h137 (fun r141 h142 => (∀ z143 : Nat, r141 = some z143 → hasC h142 z143 9) ∧ (∃ k147 k148 : Nat, c + k147 ≤ mc ∧ n + k148 ≤ ms ∧ (wj_J24_valueOf k147 k148 r136 h142 (fun r145 h146 => nn r141 (fun y151 => nn r145 (fun y152 => hasC h146 y151 9 ∧ (∃ k156 k157 : Nat, (c + k147) + k156 ≤ mc ∧ (n + k148) + k157 ≤ ms ∧ (wj_J4_addLast k156 k157 y151 y152 h146 (fun h155 => LA168 h155 ((c + k147) + k156) ((n + k148) + k157) x0 x1 x2 (some y124)))))))))))))))))))))))
def B_X2_copy_168 (mc ms : Nat) (Q : Option Nat → Hp → Prop) (LA145 : Hp → Nat → Nat → Nat → Nat → Int32 → Prop) : Nat → Hp → Nat → Nat → Nat → Nat → Int32 → (Option Nat) → Prop
  | 0, _, _, _, _, _, _, _ => False
  | k + 1, h, c, n, x0, x1, x2, x3 => S_X2_copy_168 mc ms Q LA145 (B_X2_copy_168 mc ms Q LA145 k) h c n x0 x1 x2 x3
def S_X2_copy_145 (mc ms : Nat) (Q : Option Nat → Hp → Prop) (LA145 : Hp → Nat → Nat → Nat → Nat → Int32 → Prop) (h : Hp) (c : Nat) (n : Nat) (x0 : Nat) (x1 : Nat) (x2 : Int32) : Prop :=
  ((6 : Int32) ≤ x2 → gfR h x0 1 4 (fun v96 => nn v96 (fun y97 => ∃ (N98 : Nat) (f99 : Nat → Int32), h y97 = some (aI N98 f99) ∧ (c + 1 ≤ mc ∧ n + N98 ≤ ms ∧ (nwA h 0 (N98, .inl f99) (fun q101 h102 => ∃ (w106 : Nat) (w107 : Nat → Int32), h102 q101 = some (aI w106 w107) ∧ (pf h102 x1 1 4 (.ref q101) (fun h108 => Q (some x1) h108)))))))) ∧ (¬ (6 : Int32) ≤ x2 → gfR h x0 1 3 (fun v109 => nn v109 (fun y110 => hasC h y110 8 ∧ (wj_J2_get y110 x2 h (fun r112 h113 => (∀ z114 : Nat, r112 = some z114 → hasC h113 z114 9) ∧ (nn r112 (fun y116 => hasC h113 y116 9 ∧ (∃ k120 k121 : Nat, c + k120 ≤ mc ∧ n + k121 ≤ ms ∧ (wj_J3_iterator k120 k121 y116 h113 (fun r118 h119 => ∃ k9 : Nat, B_X2_copy_168 mc ms Q LA145 k9 h119 (c + k120) (n + k121) x0 x1 x2 r118))))))))))
def B_X2_copy_145 (mc ms : Nat) (Q : Option Nat → Hp → Prop) : Nat → Hp → Nat → Nat → Nat → Nat → Int32 → Prop
  | 0, _, _, _, _, _, _ => False
  | k + 1, h, c, n, x0, x1, x2 => S_X2_copy_145 mc ms Q (B_X2_copy_145 mc ms Q k) h c n x0 x1 x2
def S_X2_copy_107 (mc ms : Nat) (Q : Option Nat → Hp → Prop) (LA107 : Hp → Nat → Nat → Nat → Nat → (Option Nat) → Prop) (h : Hp) (c : Nat) (n : Nat) (x0 : Nat) (x1 : Nat) (x2 : Option Nat) : Prop :=
  nn x2 (fun y67 => hasC h y67 13 ∧ (wj_J25_hasNext y67 h (fun r69 h70 => (r69 = false → ∃ k9 : Nat, B_X2_copy_145 mc ms Q k9 h70 c n x0 x1 (0 : Int32)) ∧ (r69 = true → hasC h70 y67 13 ∧ (wj_J25_next y67 h70 (fun r73 h74 => (∀ z75 : Nat, r73 = some z75 → hasC h74 z75 5) ∧ (gfR h74 x1 1 2 (fun v77 => nn r73 (fun y78 => hasC h74 y78 5 ∧ (∃ k82 k83 : Nat, c + k82 ≤ mc ∧ n + k83 ≤ ms ∧ (w_X6_copy k82 k83 y78 h74 (fun r80 h81 => nn v77 (fun y86 => nn r80 (fun y87 => hasC h81 y86 8 ∧ (∃ k91 k92 : Nat, (c + k82) + k91 ≤ mc ∧ (n + k83) + k92 ≤ ms ∧ (wj_J2_add k91 k92 y86 y87 h81 (fun r89 h90 => LA107 h90 ((c + k82) + k91) ((n + k83) + k92) x0 x1 (some y67))))))))))))))))))
def B_X2_copy_107 (mc ms : Nat) (Q : Option Nat → Hp → Prop) : Nat → Hp → Nat → Nat → Nat → Nat → (Option Nat) → Prop
  | 0, _, _, _, _, _, _ => False
  | k + 1, h, c, n, x0, x1, x2 => S_X2_copy_107 mc ms Q (B_X2_copy_107 mc ms Q k) h c n x0 x1 x2
def S_X2_copy_61 (mc ms : Nat) (Q : Option Nat → Hp → Prop) (LA61 : Hp → Nat → Nat → Nat → Nat → (Option Nat) → Prop) (h : Hp) (c : Nat) (n : Nat) (x0 : Nat) (x1 : Nat) (x2 : Option Nat) : Prop :=
  nn x2 (fun y30 => hasC h y30 13 ∧ (wj_J25_hasNext y30 h (fun r32 h33 => (r32 = false → gfR h33 x0 1 2 (fun v35 => nn v35 (fun y36 => hasC h33 y36 8 ∧ (∃ k40 k41 : Nat, c + k40 ≤ mc ∧ n + k41 ≤ ms ∧ (wj_J2_iterator k40 k41 y36 h33 (fun r38 h39 => ∃ k9 : Nat, B_X2_copy_107 mc ms Q k9 h39 (c + k40) (n + k41) x0 x1 r38)))))) ∧ (r32 = true → hasC h33 y30 13 ∧ (wj_J25_next y30 h33 (fun r45 h46 => (∀ z47 : Nat, r45 = some z47 → hasC h46 z47 4) ∧ (gfR h46 x1 1 1 (fun v49 => nn r45 (fun y50 => hasC h46 y50 4 ∧ (∃ k54 k55 : Nat, c + k54 ≤ mc ∧ n + k55 ≤ ms ∧ (w_X5_copy k54 k55 y50 h46 (fun r52 h53 => nn v49 (fun y58 => nn r52 (fun y59 => hasC h53 y58 8 ∧ (∃ k63 k64 : Nat, (c + k54) + k63 ≤ mc ∧ (n + k55) + k64 ≤ ms ∧ (wj_J2_add k63 k64 y58 y59 h53 (fun r61 h62 => LA61 h62 ((c + k54) + k63) ((n + k55) + k64) x0 x1 (some y30))))))))))))))))))
def B_X2_copy_61 (mc ms : Nat) (Q : Option Nat → Hp → Prop) : Nat → Hp → Nat → Nat → Nat → Nat → (Option Nat) → Prop
  | 0, _, _, _, _, _, _ => False
  | k + 1, h, c, n, x0, x1, x2 => S_X2_copy_61 mc ms Q (B_X2_copy_61 mc ms Q k) h c n x0 x1 x2
def S_X2_copy_18 (mc ms : Nat) (Q : Option Nat → Hp → Prop) (LA18 : Hp → Nat → Nat → Nat → Nat → (Option Nat) → Prop) (h : Hp) (c : Nat) (n : Nat) (x0 : Nat) (x1 : Nat) (x2 : Option Nat) : Prop :=
  nn x2 (fun y1 => hasC h y1 13 ∧ (wj_J25_hasNext y1 h (fun r3 h4 => (r3 = false → gfR h4 x0 1 1 (fun v6 => nn v6 (fun y7 => hasC h4 y7 8 ∧ (∃ k11 k12 : Nat, c + k11 ≤ mc ∧ n + k12 ≤ ms ∧ (wj_J2_iterator k11 k12 y7 h4 (fun r9 h10 => ∃ k9 : Nat, B_X2_copy_61 mc ms Q k9 h10 (c + k11) (n + k12) x0 x1 r9)))))) ∧ (r3 = true → hasC h4 y1 13 ∧ (wj_J25_next y1 h4 (fun r16 h17 => (∀ z18 : Nat, r16 = some z18 → hasC h17 z18 3) ∧ (gfR h17 x1 1 0 (fun v20 => nn v20 (fun y21 => nn r16 (fun y22 => hasC h17 y21 8 ∧ (∃ k26 k27 : Nat, c + k26 ≤ mc ∧ n + k27 ≤ ms ∧ (wj_J2_add k26 k27 y21 y22 h17 (fun r24 h25 => LA18 h25 (c + k26) (n + k27) x0 x1 (some y1))))))))))))))
def B_X2_copy_18 (mc ms : Nat) (Q : Option Nat → Hp → Prop) : Nat → Hp → Nat → Nat → Nat → Nat → (Option Nat) → Prop
  | 0, _, _, _, _, _, _ => False
  | k + 1, h, c, n, x0, x1, x2 => S_X2_copy_18 mc ms Q (B_X2_copy_18 mc ms Q k) h c n x0 x1 x2
def w_X2_copy (mc ms : Nat) (a0 : Nat) (h : Hp) (Q : Option Nat → Hp → Prop) : Prop :=
  0 + 1 ≤ mc ∧ 0 + 6 ≤ ms ∧ (nwO h 1 [.null, .null, .null, .null, .null, .null] (fun q162 h163 => ∃ k166 k167 : Nat, (0 + 1) + k166 ≤ mc ∧ (0 + 6) + k167 ≤ ms ∧ (w_X2_init k166 k167 q162 h163 (fun h165 => gfR h165 a0 1 0 (fun v170 => nn v170 (fun y171 => hasC h165 y171 8 ∧ (∃ k175 k176 : Nat, ((0 + 1) + k166) + k175 ≤ mc ∧ ((0 + 6) + k167) + k176 ≤ ms ∧ (wj_J2_iterator k175 k176 y171 h165 (fun r173 h174 => ∃ k9 : Nat, B_X2_copy_18 mc ms Q k9 h174 (((0 + 1) + k166) + k175) (((0 + 6) + k167) + k176) a0 q162 r173)))))))))
theorem s_X2_copy_168 {G : gT} {l : Launch} {V : Hp → Nat → Nat → Nat → List (Nat × Value) → List Value → Prop} {mc ms : Nat} {Q : Option Nat → Hp → Prop} (C : Cx G l V cX2_copy 5 RX2 8 214 mc ms (pR Q) none (some (.object "CordSeals$Collection")) [] false) (LA145 : Hp → Nat → Nat → Nat → Nat → Int32 → Prop) (hLA145 : ∀ (h : Hp) (c : Nat) (n : Nat) (x0 : Nat) (x1 : Nat) (x2 : Int32), c ≤ mc → n ≤ ms → LA145 h c n x0 x1 x2 → V h c n 145 [(0, .ref x0), (1, .ref x1), (2, .int x2)] []) (LA168 : Hp → Nat → Nat → Nat → Nat → Int32 → (Option Nat) → Prop) (hLA168 : ∀ (h : Hp) (c : Nat) (n : Nat) (x0 : Nat) (x1 : Nat) (x2 : Int32) (x3 : Option Nat), c ≤ mc → n ≤ ms → LA168 h c n x0 x1 x2 x3 → V h c n 168 [(0, .ref x0), (1, .ref x1), (2, .int x2), (3, va_rf x3)] []) (h : Hp) (c : Nat) (n : Nat) (x0 : Nat) (x1 : Nat) (x2 : Int32) (x3 : Option Nat) (b1 : c ≤ mc) (b2 : n ≤ ms) (hw : S_X2_copy_168 mc ms Q LA145 LA168 h c n x0 x1 x2 x3) : V h c n 168 [(0, .ref x0), (1, .ref x1), (2, .int x2), (3, va_rf x3)] [] := by
  unfold S_X2_copy_168 at hw
  refine r_aload_nO C rfl 3 rfl dX2_copy_168 ?_
  obtain ⟨y124, rfl, hw_y124⟩ := hw
  have hw := hw_y124
  obtain ⟨hq125, hw⟩ := hw
  refine r_callF (ci := 14) (rest := []) (As := []) C (x := ⟨"java/util/Iterator", "hasNext", "()Z"⟩) (show ySg ⟨"java/util/Iterator", "hasNext", "()Z"⟩ 0 = true by decide +kernel) rfl q1161 q1192 q1194 q114 q1196 (List.mem_of_getElem? (i := 16) rfl) rfl (Nat.le_of_ble_eq_true rfl) dX2_copy_169 rfl hq125 b1 b2 (cj_J28_hasNext G l y124 h _ hw) (k_Z (fun r126 h127 hw => ?_))
  refine r_if_eq_b (tgt := 215) C (by decide) dX2_copy_174 (fun hc128 => ?_) (fun hc128 => ?_)
  · have hw := hw.1 hc128
    refine r_iinc (v := x2 + (1 : Int32)) (L' := [(2, .int (x2 + (1 : Int32))), (0, .ref x0), (1, .ref x1), (3, .ref y124)]) C (u := 2) rfl (by rfl) (by decide) rfl dX2_copy_215 (r_goto (tgt := 145) C (by decide) dX2_copy_218 ?_)
    exact r_sub C [1, 2, 0] rfl (hLA145 _ _ _ _ _ _ b1 b2 hw)
  · have hw := hw.2 hc128
    refine r_aload_n C rfl 3 rfl dX2_copy_177 ?_
    obtain ⟨hq129, hw⟩ := hw
    refine r_callF (ci := 14) (rest := []) (As := []) C (x := ⟨"java/util/Iterator", "next", "()Ljava/lang/Object;"⟩) (show ySg ⟨"java/util/Iterator", "next", "()Ljava/lang/Object;"⟩ 0 = true by decide +kernel) rfl q1198 q1311 q1313 q114 q1315 (List.mem_of_getElem? (i := 21) rfl) rfl (Nat.le_of_ble_eq_true rfl) dX2_copy_178 rfl hq129 b1 b2 (cj_J28_next G l y124 h127 _ hw) (k_R (fun r130 h131 hw => ?_))
    obtain ⟨e133, hw⟩ := hw
    refine r_cast (x := r130) C (ci := 12) rfl q1558 dX2_copy_183 e133 ?_
    obtain ⟨y134, rfl, hw_y134⟩ := hw
    have hw := hw_y134
    obtain ⟨hq135, hw⟩ := hw
    refine r_callV (ci := 12) (rest := []) (As := []) C sg_J24_intValue rfl rfl q1559 q952 q953 q105 q954 rfl (Nat.le_of_ble_eq_true rfl) dX2_copy_186 rfl hq135 b1 b2 (cj_J24_intValue G l y134 h131 _ hw) (k_I (fun r136 h137 hw => ?_))
    refine r_istore (L' := [(4, .int r136), (0, .ref x0), (1, .ref x1), (2, .int x2), (3, .ref y124)]) C (by decide) rfl dX2_copy_189 (r_aload_n C rfl 2 rfl dX2_copy_191 ?_)
    refine r_gfR (k := 3) C kX2 (by decide) (Or.inl q308) (Or.inl rfl) dX2_copy_192 hw (fun v138 hw => ?_)
    refine r_iload_n C rfl 3 rfl dX2_copy_195 ?_
    obtain ⟨y139, rfl, hw_y139⟩ := hw
    have hw := hw_y139
    obtain ⟨hq140, hw⟩ := hw
    refine r_callF (ci := 8) (rest := []) (As := [.int x2]) C (x := ⟨"java/util/List", "get", "(I)Ljava/lang/Object;"⟩) (show ySg ⟨"java/util/List", "get", "(I)Ljava/lang/Object;"⟩ 1 = true by decide +kernel) rfl q450 q453 q455 q81 q457 (List.mem_of_getElem? (i := 6) rfl) rfl (Nat.le_of_ble_eq_true rfl) dX2_copy_196 rfl hq140 b1 b2 (cj_J2_get G l y139 x2 h137 _ hw) (k_R (fun r141 h142 hw => ?_))
    obtain ⟨e144, hw⟩ := hw
    refine r_cast (x := r141) C (ci := 9) rfl q169 dX2_copy_201 e144 ?_
    refine r_iload C 0 rfl dX2_copy_204 ?_
    obtain ⟨k147, k148, hp149, hp150, hw⟩ := hw
    refine r_callS (rest := [va_rf r141]) (As := [.int r136]) C sg_J24_valueOf q978 q896 q105 q897 rfl (by rcases r141 with _ | _ <;> exact Nat.le_of_ble_eq_true rfl) dX2_copy_206 rfl hp149 hp150 (cj_J24_valueOf G l k147 k148 r136 h142 _ hw) (k_R (fun r145 h146 hw => ?_))
    obtain ⟨y151, rfl, hw_y151⟩ := hw
    have hw := hw_y151
    obtain ⟨y152, rfl, hw_y152⟩ := hw
    have hw := hw_y152
    obtain ⟨hq153, hw⟩ := hw
    obtain ⟨k156, k157, hp158, hp159, hw⟩ := hw
    refine r_callV (ci := 9) (rest := []) (As := [.ref y152]) C sg_J4_addLast rfl rfl q1789 q1790 q1791 q83 q1792 rfl (Nat.le_of_ble_eq_true rfl) dX2_copy_209 rfl hq153 hp158 hp159 (cj_J4_addLast G l k156 k157 y151 y152 h146 _ hw) (k_V (fun h155 hw => ?_))
    refine r_goto (tgt := 168) C (by decide) dX2_copy_212 ?_
    exact r_sub C [1, 2, 3, 4] rfl (hLA168 _ _ _ _ _ _ _ hp158 hp159 hw)
theorem b_X2_copy_168 {G : gT} {l : Launch} {V : Hp → Nat → Nat → Nat → List (Nat × Value) → List Value → Prop} {mc ms : Nat} {Q : Option Nat → Hp → Prop} (C : Cx G l V cX2_copy 5 RX2 8 214 mc ms (pR Q) none (some (.object "CordSeals$Collection")) [] false) (LA145 : Hp → Nat → Nat → Nat → Nat → Int32 → Prop) (hLA145 : ∀ (h : Hp) (c : Nat) (n : Nat) (x0 : Nat) (x1 : Nat) (x2 : Int32), c ≤ mc → n ≤ ms → LA145 h c n x0 x1 x2 → V h c n 145 [(0, .ref x0), (1, .ref x1), (2, .int x2)] []) : ∀ (k : Nat) (h : Hp) (c : Nat) (n : Nat) (x0 : Nat) (x1 : Nat) (x2 : Int32) (x3 : Option Nat), c ≤ mc → n ≤ ms → B_X2_copy_168 mc ms Q LA145 k h c n x0 x1 x2 x3 → V h c n 168 [(0, .ref x0), (1, .ref x1), (2, .int x2), (3, va_rf x3)] [] := by
  intro k
  induction k with
  | zero =>
    intro h c n x0 x1 x2 x3 b1 b2 hw
    exact hw.elim
  | succ k ih =>
    intro h c n x0 x1 x2 x3 b1 b2 hw
    exact s_X2_copy_168 C LA145 hLA145 _ (fun h c n x0 x1 x2 x3 b1 b2 hw => ih h c n x0 x1 x2 x3 b1 b2 hw) h c n x0 x1 x2 x3 b1 b2 hw
theorem s_X2_copy_145 {G : gT} {l : Launch} {V : Hp → Nat → Nat → Nat → List (Nat × Value) → List Value → Prop} {mc ms : Nat} {Q : Option Nat → Hp → Prop} (C : Cx G l V cX2_copy 5 RX2 8 214 mc ms (pR Q) none (some (.object "CordSeals$Collection")) [] false) (LA145 : Hp → Nat → Nat → Nat → Nat → Int32 → Prop) (hLA145 : ∀ (h : Hp) (c : Nat) (n : Nat) (x0 : Nat) (x1 : Nat) (x2 : Int32), c ≤ mc → n ≤ ms → LA145 h c n x0 x1 x2 → V h c n 145 [(0, .ref x0), (1, .ref x1), (2, .int x2)] []) (h : Hp) (c : Nat) (n : Nat) (x0 : Nat) (x1 : Nat) (x2 : Int32) (b1 : c ≤ mc) (b2 : n ≤ ms) (hw : S_X2_copy_145 mc ms Q LA145 h c n x0 x1 x2) : V h c n 145 [(0, .ref x0), (1, .ref x1), (2, .int x2)] [] := by
  unfold S_X2_copy_145 at hw
  refine r_iload_n C rfl 2 rfl dX2_copy_145 (r_bipush (v := (6 : Int32)) C (by decide) dX2_copy_146 ?_)
  refine r_icmp_ge (tgt := 221) C (by decide) dX2_copy_148 (fun hc95 => ?_) (fun hc95 => ?_)
  · have hw := hw.1 hc95
    refine r_aload_n C rfl 1 rfl dX2_copy_221 (r_aload_n C rfl 0 rfl dX2_copy_222 ?_)
    refine r_gfR (k := 4) C kX2 (by decide) (Or.inl q310) (Or.inl rfl) dX2_copy_223 hw (fun v96 hw => ?_)
    obtain ⟨y97, rfl, hw_y97⟩ := hw
    have hw := hw_y97
    obtain ⟨N98, f99, e100, hw⟩ := hw
    obtain ⟨hp103, hp104, hw⟩ := hw
    refine r_cloneI C q1793 q1794 q588 q589 q1795 (List.mem_of_getElem? (i := 55) rfl) (by decide) (by simp [Value.category, va_rf_cat]) hp103 hp104 dX2_copy_226 e100 hw (fun q101 h102 hw => ?_)
    obtain ⟨w106, w107, e105, hw⟩ := hw
    refine r_castI C q1797 dX2_copy_229 e105 ?_
    refine r_pf (k := 4) (v := .ref q101) C kX2 (by decide) (Or.inl q310) (Or.inl rfl) (Or.inl rfl) rfl rfl dX2_copy_232 hw (fun h108 hw => ?_)
    refine r_aload_n C rfl 1 rfl dX2_copy_235 ?_
    exact r_areturn (x := some x1) C (by first | exact Or.inl ⟨_, rfl⟩ | exact Or.inr ⟨_, rfl⟩) dX2_copy_236 hp103 hp104 ⟨_, rfl, hw⟩
  · have hw := hw.2 hc95
    refine r_aload_n C rfl 0 rfl dX2_copy_151 ?_
    refine r_gfR (k := 3) C kX2 (by decide) (Or.inl q308) (Or.inl rfl) dX2_copy_152 hw (fun v109 hw => ?_)
    refine r_iload_n C rfl 2 rfl dX2_copy_155 ?_
    obtain ⟨y110, rfl, hw_y110⟩ := hw
    have hw := hw_y110
    obtain ⟨hq111, hw⟩ := hw
    refine r_callF (ci := 8) (rest := []) (As := [.int x2]) C (x := ⟨"java/util/List", "get", "(I)Ljava/lang/Object;"⟩) (show ySg ⟨"java/util/List", "get", "(I)Ljava/lang/Object;"⟩ 1 = true by decide +kernel) rfl q450 q453 q455 q81 q457 (List.mem_of_getElem? (i := 6) rfl) rfl (Nat.le_of_ble_eq_true rfl) dX2_copy_156 rfl hq111 b1 b2 (cj_J2_get G l y110 x2 h _ hw) (k_R (fun r112 h113 hw => ?_))
    obtain ⟨e115, hw⟩ := hw
    refine r_cast (x := r112) C (ci := 9) rfl q169 dX2_copy_161 e115 ?_
    obtain ⟨y116, rfl, hw_y116⟩ := hw
    have hw := hw_y116
    obtain ⟨hq117, hw⟩ := hw
    obtain ⟨k120, k121, hp122, hp123, hw⟩ := hw
    refine r_callU (ci := 9) (owner := "java/util/AbstractSequentialList") (rest := []) (As := []) C (x := ⟨"java/util/LinkedList", "iterator", "()Ljava/util/Iterator;"⟩) (show ySg ⟨"java/util/AbstractSequentialList", "iterator", "()Ljava/util/Iterator;"⟩ 0 = true by decide +kernel) rfl q1554 q1555 q1557 q1079 q82 q1081 (by decide +kernel) rfl (Nat.le_of_ble_eq_true rfl) dX2_copy_164 rfl hq117 hp122 hp123 (cj_J3_iterator G l k120 k121 y116 h113 _ hw) (k_R (fun r118 h119 hw => ?_))
    refine r_astore_nO (x := r118) (L' := [(3, va_rf r118), (0, .ref x0), (1, .ref x1), (2, .int x2)]) C rfl (by decide) rfl dX2_copy_167 ?_
    obtain ⟨k9, hw⟩ := hw
    exact r_sub C [1, 2, 3, 0] rfl (b_X2_copy_168 C LA145 hLA145 _ _ _ _ _ _ _ _ hp122 hp123 hw)
theorem b_X2_copy_145 {G : gT} {l : Launch} {V : Hp → Nat → Nat → Nat → List (Nat × Value) → List Value → Prop} {mc ms : Nat} {Q : Option Nat → Hp → Prop} (C : Cx G l V cX2_copy 5 RX2 8 214 mc ms (pR Q) none (some (.object "CordSeals$Collection")) [] false) : ∀ (k : Nat) (h : Hp) (c : Nat) (n : Nat) (x0 : Nat) (x1 : Nat) (x2 : Int32), c ≤ mc → n ≤ ms → B_X2_copy_145 mc ms Q k h c n x0 x1 x2 → V h c n 145 [(0, .ref x0), (1, .ref x1), (2, .int x2)] [] := by
  intro k
  induction k with
  | zero =>
    intro h c n x0 x1 x2 b1 b2 hw
    exact hw.elim
  | succ k ih =>
    intro h c n x0 x1 x2 b1 b2 hw
    exact s_X2_copy_145 C _ (fun h c n x0 x1 x2 b1 b2 hw => ih h c n x0 x1 x2 b1 b2 hw) h c n x0 x1 x2 b1 b2 hw
theorem s_X2_copy_107 {G : gT} {l : Launch} {V : Hp → Nat → Nat → Nat → List (Nat × Value) → List Value → Prop} {mc ms : Nat} {Q : Option Nat → Hp → Prop} (C : Cx G l V cX2_copy 5 RX2 8 214 mc ms (pR Q) none (some (.object "CordSeals$Collection")) [] false) (LA107 : Hp → Nat → Nat → Nat → Nat → (Option Nat) → Prop) (hLA107 : ∀ (h : Hp) (c : Nat) (n : Nat) (x0 : Nat) (x1 : Nat) (x2 : Option Nat), c ≤ mc → n ≤ ms → LA107 h c n x0 x1 x2 → V h c n 107 [(0, .ref x0), (1, .ref x1), (2, va_rf x2)] []) (h : Hp) (c : Nat) (n : Nat) (x0 : Nat) (x1 : Nat) (x2 : Option Nat) (b1 : c ≤ mc) (b2 : n ≤ ms) (hw : S_X2_copy_107 mc ms Q LA107 h c n x0 x1 x2) : V h c n 107 [(0, .ref x0), (1, .ref x1), (2, va_rf x2)] [] := by
  unfold S_X2_copy_107 at hw
  refine r_aload_nO C rfl 2 rfl dX2_copy_107 ?_
  obtain ⟨y67, rfl, hw_y67⟩ := hw
  have hw := hw_y67
  obtain ⟨hq68, hw⟩ := hw
  refine r_callF (ci := 13) (rest := []) (As := []) C (x := ⟨"java/util/Iterator", "hasNext", "()Z"⟩) (show ySg ⟨"java/util/Iterator", "hasNext", "()Z"⟩ 0 = true by decide +kernel) rfl q1161 q1183 q1185 q110 q1187 (List.mem_of_getElem? (i := 14) rfl) rfl (Nat.le_of_ble_eq_true rfl) dX2_copy_108 rfl hq68 b1 b2 (cj_J25_hasNext G l y67 h _ hw) (k_Z (fun r69 h70 hw => ?_))
  refine r_if_eq_b (tgt := 143) C (by decide) dX2_copy_113 (fun hc71 => ?_) (fun hc71 => ?_)
  · have hw := hw.1 hc71
    refine r_iconst (v := (0 : Int32)) C (by decide) dX2_copy_143 (r_istore_n (L' := [(2, .int (0 : Int32)), (0, .ref x0), (1, .ref x1)]) C rfl (by decide) rfl dX2_copy_144 ?_)
    obtain ⟨k9, hw⟩ := hw
    exact r_sub C [1, 2, 0] rfl (b_X2_copy_145 C _ _ _ _ _ _ _ b1 b2 hw)
  · have hw := hw.2 hc71
    refine r_aload_n C rfl 2 rfl dX2_copy_116 ?_
    obtain ⟨hq72, hw⟩ := hw
    refine r_callF (ci := 13) (rest := []) (As := []) C (x := ⟨"java/util/Iterator", "next", "()Ljava/lang/Object;"⟩) (show ySg ⟨"java/util/Iterator", "next", "()Ljava/lang/Object;"⟩ 0 = true by decide +kernel) rfl q1198 q1298 q1300 q110 q1302 (List.mem_of_getElem? (i := 19) rfl) rfl (Nat.le_of_ble_eq_true rfl) dX2_copy_117 rfl hq72 b1 b2 (cj_J25_next G l y67 h70 _ hw) (k_R (fun r73 h74 hw => ?_))
    obtain ⟨e76, hw⟩ := hw
    refine r_cast (x := r73) C (ci := 5) rfl q992 dX2_copy_122 e76 ?_
    refine r_astore_nO (x := r73) (L' := [(3, va_rf r73), (0, .ref x0), (1, .ref x1), (2, .ref y67)]) C rfl (by decide) rfl dX2_copy_125 (r_aload_n C rfl 2 rfl dX2_copy_126 ?_)
    refine r_gfR (k := 2) C kX2 (by decide) (Or.inl q305) (Or.inl rfl) dX2_copy_127 hw (fun v77 hw => ?_)
    refine r_aload_nO C rfl 0 rfl dX2_copy_130 ?_
    obtain ⟨y78, rfl, hw_y78⟩ := hw
    have hw := hw_y78
    obtain ⟨hq79, hw⟩ := hw
    obtain ⟨k82, k83, hp84, hp85, hw⟩ := hw
    refine r_callV (ci := 5) (rest := [va_rf v77]) (As := []) C sg_X6_copy rfl rfl q1783 q1784 q1785 q109 q1786 rfl (by rcases v77 with _ | _ <;> exact Nat.le_of_ble_eq_true rfl) dX2_copy_131 rfl hq79 hp84 hp85 (c_X6_copy G l k82 k83 y78 h74 _ hw) (k_R (fun r80 h81 hw => ?_))
    obtain ⟨y86, rfl, hw_y86⟩ := hw
    have hw := hw_y86
    obtain ⟨y87, rfl, hw_y87⟩ := hw
    have hw := hw_y87
    obtain ⟨hq88, hw⟩ := hw
    obtain ⟨k91, k92, hp93, hp94, hw⟩ := hw
    refine r_callF (ci := 8) (rest := []) (As := [.ref y87]) C (x := ⟨"java/util/List", "add", "(Ljava/lang/Object;)Z"⟩) (show ySg ⟨"java/util/List", "add", "(Ljava/lang/Object;)Z"⟩ 1 = true by decide +kernel) rfl q192 q196 q198 q81 q200 (List.mem_of_getElem? (i := 0) rfl) rfl (Nat.le_of_ble_eq_true rfl) dX2_copy_134 rfl hq88 hp93 hp94 (cj_J2_add G l k91 k92 y86 y87 h81 _ hw) (k_Z (fun r89 h90 hw => ?_))
    refine r_pop C rfl dX2_copy_139 (r_goto (tgt := 107) C (by decide) dX2_copy_140 ?_)
    exact r_sub C [1, 2, 3] rfl (hLA107 _ _ _ _ _ _ hp93 hp94 hw)
theorem b_X2_copy_107 {G : gT} {l : Launch} {V : Hp → Nat → Nat → Nat → List (Nat × Value) → List Value → Prop} {mc ms : Nat} {Q : Option Nat → Hp → Prop} (C : Cx G l V cX2_copy 5 RX2 8 214 mc ms (pR Q) none (some (.object "CordSeals$Collection")) [] false) : ∀ (k : Nat) (h : Hp) (c : Nat) (n : Nat) (x0 : Nat) (x1 : Nat) (x2 : Option Nat), c ≤ mc → n ≤ ms → B_X2_copy_107 mc ms Q k h c n x0 x1 x2 → V h c n 107 [(0, .ref x0), (1, .ref x1), (2, va_rf x2)] [] := by
  intro k
  induction k with
  | zero =>
    intro h c n x0 x1 x2 b1 b2 hw
    exact hw.elim
  | succ k ih =>
    intro h c n x0 x1 x2 b1 b2 hw
    exact s_X2_copy_107 C _ (fun h c n x0 x1 x2 b1 b2 hw => ih h c n x0 x1 x2 b1 b2 hw) h c n x0 x1 x2 b1 b2 hw
theorem s_X2_copy_61 {G : gT} {l : Launch} {V : Hp → Nat → Nat → Nat → List (Nat × Value) → List Value → Prop} {mc ms : Nat} {Q : Option Nat → Hp → Prop} (C : Cx G l V cX2_copy 5 RX2 8 214 mc ms (pR Q) none (some (.object "CordSeals$Collection")) [] false) (LA61 : Hp → Nat → Nat → Nat → Nat → (Option Nat) → Prop) (hLA61 : ∀ (h : Hp) (c : Nat) (n : Nat) (x0 : Nat) (x1 : Nat) (x2 : Option Nat), c ≤ mc → n ≤ ms → LA61 h c n x0 x1 x2 → V h c n 61 [(0, .ref x0), (1, .ref x1), (2, va_rf x2)] []) (h : Hp) (c : Nat) (n : Nat) (x0 : Nat) (x1 : Nat) (x2 : Option Nat) (b1 : c ≤ mc) (b2 : n ≤ ms) (hw : S_X2_copy_61 mc ms Q LA61 h c n x0 x1 x2) : V h c n 61 [(0, .ref x0), (1, .ref x1), (2, va_rf x2)] [] := by
  unfold S_X2_copy_61 at hw
  refine r_aload_nO C rfl 2 rfl dX2_copy_61 ?_
  obtain ⟨y30, rfl, hw_y30⟩ := hw
  have hw := hw_y30
  obtain ⟨hq31, hw⟩ := hw
  refine r_callF (ci := 13) (rest := []) (As := []) C (x := ⟨"java/util/Iterator", "hasNext", "()Z"⟩) (show ySg ⟨"java/util/Iterator", "hasNext", "()Z"⟩ 0 = true by decide +kernel) rfl q1161 q1183 q1185 q110 q1187 (List.mem_of_getElem? (i := 14) rfl) rfl (Nat.le_of_ble_eq_true rfl) dX2_copy_62 rfl hq31 b1 b2 (cj_J25_hasNext G l y30 h _ hw) (k_Z (fun r32 h33 hw => ?_))
  refine r_if_eq_b (tgt := 97) C (by decide) dX2_copy_67 (fun hc34 => ?_) (fun hc34 => ?_)
  · have hw := hw.1 hc34
    refine r_aload_n C rfl 0 rfl dX2_copy_97 ?_
    refine r_gfR (k := 2) C kX2 (by decide) (Or.inl q305) (Or.inl rfl) dX2_copy_98 hw (fun v35 hw => ?_)
    obtain ⟨y36, rfl, hw_y36⟩ := hw
    have hw := hw_y36
    obtain ⟨hq37, hw⟩ := hw
    obtain ⟨k40, k41, hp42, hp43, hw⟩ := hw
    refine r_callF (ci := 8) (rest := []) (As := []) C (x := ⟨"java/util/List", "iterator", "()Ljava/util/Iterator;"⟩) (show ySg ⟨"java/util/List", "iterator", "()Ljava/util/Iterator;"⟩ 0 = true by decide +kernel) rfl q1048 q1051 q1053 q81 q1055 (List.mem_of_getElem? (i := 10) rfl) rfl (Nat.le_of_ble_eq_true rfl) dX2_copy_101 rfl hq37 hp42 hp43 (cj_J2_iterator G l k40 k41 y36 h33 _ hw) (k_R (fun r38 h39 hw => ?_))
    refine r_astore_nO (x := r38) (L' := [(2, va_rf r38), (0, .ref x0), (1, .ref x1)]) C rfl (by decide) rfl dX2_copy_106 ?_
    obtain ⟨k9, hw⟩ := hw
    exact r_sub C [1, 2, 0] rfl (b_X2_copy_107 C _ _ _ _ _ _ _ hp42 hp43 hw)
  · have hw := hw.2 hc34
    refine r_aload_n C rfl 2 rfl dX2_copy_70 ?_
    obtain ⟨hq44, hw⟩ := hw
    refine r_callF (ci := 13) (rest := []) (As := []) C (x := ⟨"java/util/Iterator", "next", "()Ljava/lang/Object;"⟩) (show ySg ⟨"java/util/Iterator", "next", "()Ljava/lang/Object;"⟩ 0 = true by decide +kernel) rfl q1198 q1298 q1300 q110 q1302 (List.mem_of_getElem? (i := 19) rfl) rfl (Nat.le_of_ble_eq_true rfl) dX2_copy_71 rfl hq44 b1 b2 (cj_J25_next G l y30 h33 _ hw) (k_R (fun r45 h46 hw => ?_))
    obtain ⟨e48, hw⟩ := hw
    refine r_cast (x := r45) C (ci := 4) rfl q847 dX2_copy_76 e48 ?_
    refine r_astore_nO (x := r45) (L' := [(3, va_rf r45), (0, .ref x0), (1, .ref x1), (2, .ref y30)]) C rfl (by decide) rfl dX2_copy_79 (r_aload_n C rfl 2 rfl dX2_copy_80 ?_)
    refine r_gfR (k := 1) C kX2 (by decide) (Or.inl q303) (Or.inl rfl) dX2_copy_81 hw (fun v49 hw => ?_)
    refine r_aload_nO C rfl 0 rfl dX2_copy_84 ?_
    obtain ⟨y50, rfl, hw_y50⟩ := hw
    have hw := hw_y50
    obtain ⟨hq51, hw⟩ := hw
    obtain ⟨k54, k55, hp56, hp57, hw⟩ := hw
    refine r_callV (ci := 4) (rest := [va_rf v49]) (As := []) C sg_X5_copy rfl rfl q1767 q1768 q1769 q107 q1770 rfl (by rcases v49 with _ | _ <;> exact Nat.le_of_ble_eq_true rfl) dX2_copy_85 rfl hq51 hp56 hp57 (c_X5_copy G l k54 k55 y50 h46 _ hw) (k_R (fun r52 h53 hw => ?_))
    obtain ⟨y58, rfl, hw_y58⟩ := hw
    have hw := hw_y58
    obtain ⟨y59, rfl, hw_y59⟩ := hw
    have hw := hw_y59
    obtain ⟨hq60, hw⟩ := hw
    obtain ⟨k63, k64, hp65, hp66, hw⟩ := hw
    refine r_callF (ci := 8) (rest := []) (As := [.ref y59]) C (x := ⟨"java/util/List", "add", "(Ljava/lang/Object;)Z"⟩) (show ySg ⟨"java/util/List", "add", "(Ljava/lang/Object;)Z"⟩ 1 = true by decide +kernel) rfl q192 q196 q198 q81 q200 (List.mem_of_getElem? (i := 0) rfl) rfl (Nat.le_of_ble_eq_true rfl) dX2_copy_88 rfl hq60 hp65 hp66 (cj_J2_add G l k63 k64 y58 y59 h53 _ hw) (k_Z (fun r61 h62 hw => ?_))
    refine r_pop C rfl dX2_copy_93 (r_goto (tgt := 61) C (by decide) dX2_copy_94 ?_)
    exact r_sub C [1, 2, 3] rfl (hLA61 _ _ _ _ _ _ hp65 hp66 hw)
theorem b_X2_copy_61 {G : gT} {l : Launch} {V : Hp → Nat → Nat → Nat → List (Nat × Value) → List Value → Prop} {mc ms : Nat} {Q : Option Nat → Hp → Prop} (C : Cx G l V cX2_copy 5 RX2 8 214 mc ms (pR Q) none (some (.object "CordSeals$Collection")) [] false) : ∀ (k : Nat) (h : Hp) (c : Nat) (n : Nat) (x0 : Nat) (x1 : Nat) (x2 : Option Nat), c ≤ mc → n ≤ ms → B_X2_copy_61 mc ms Q k h c n x0 x1 x2 → V h c n 61 [(0, .ref x0), (1, .ref x1), (2, va_rf x2)] [] := by
  intro k
  induction k with
  | zero =>
    intro h c n x0 x1 x2 b1 b2 hw
    exact hw.elim
  | succ k ih =>
    intro h c n x0 x1 x2 b1 b2 hw
    exact s_X2_copy_61 C _ (fun h c n x0 x1 x2 b1 b2 hw => ih h c n x0 x1 x2 b1 b2 hw) h c n x0 x1 x2 b1 b2 hw
theorem s_X2_copy_18 {G : gT} {l : Launch} {V : Hp → Nat → Nat → Nat → List (Nat × Value) → List Value → Prop} {mc ms : Nat} {Q : Option Nat → Hp → Prop} (C : Cx G l V cX2_copy 5 RX2 8 214 mc ms (pR Q) none (some (.object "CordSeals$Collection")) [] false) (LA18 : Hp → Nat → Nat → Nat → Nat → (Option Nat) → Prop) (hLA18 : ∀ (h : Hp) (c : Nat) (n : Nat) (x0 : Nat) (x1 : Nat) (x2 : Option Nat), c ≤ mc → n ≤ ms → LA18 h c n x0 x1 x2 → V h c n 18 [(0, .ref x0), (1, .ref x1), (2, va_rf x2)] []) (h : Hp) (c : Nat) (n : Nat) (x0 : Nat) (x1 : Nat) (x2 : Option Nat) (b1 : c ≤ mc) (b2 : n ≤ ms) (hw : S_X2_copy_18 mc ms Q LA18 h c n x0 x1 x2) : V h c n 18 [(0, .ref x0), (1, .ref x1), (2, va_rf x2)] [] := by
  unfold S_X2_copy_18 at hw
  refine r_aload_nO C rfl 2 rfl dX2_copy_18 ?_
  obtain ⟨y1, rfl, hw_y1⟩ := hw
  have hw := hw_y1
  obtain ⟨hq2, hw⟩ := hw
  refine r_callF (ci := 13) (rest := []) (As := []) C (x := ⟨"java/util/Iterator", "hasNext", "()Z"⟩) (show ySg ⟨"java/util/Iterator", "hasNext", "()Z"⟩ 0 = true by decide +kernel) rfl q1161 q1183 q1185 q110 q1187 (List.mem_of_getElem? (i := 14) rfl) rfl (Nat.le_of_ble_eq_true rfl) dX2_copy_19 rfl hq2 b1 b2 (cj_J25_hasNext G l y1 h _ hw) (k_Z (fun r3 h4 hw => ?_))
  refine r_if_eq_b (tgt := 51) C (by decide) dX2_copy_24 (fun hc5 => ?_) (fun hc5 => ?_)
  · have hw := hw.1 hc5
    refine r_aload_n C rfl 0 rfl dX2_copy_51 ?_
    refine r_gfR (k := 1) C kX2 (by decide) (Or.inl q303) (Or.inl rfl) dX2_copy_52 hw (fun v6 hw => ?_)
    obtain ⟨y7, rfl, hw_y7⟩ := hw
    have hw := hw_y7
    obtain ⟨hq8, hw⟩ := hw
    obtain ⟨k11, k12, hp13, hp14, hw⟩ := hw
    refine r_callF (ci := 8) (rest := []) (As := []) C (x := ⟨"java/util/List", "iterator", "()Ljava/util/Iterator;"⟩) (show ySg ⟨"java/util/List", "iterator", "()Ljava/util/Iterator;"⟩ 0 = true by decide +kernel) rfl q1048 q1051 q1053 q81 q1055 (List.mem_of_getElem? (i := 10) rfl) rfl (Nat.le_of_ble_eq_true rfl) dX2_copy_55 rfl hq8 hp13 hp14 (cj_J2_iterator G l k11 k12 y7 h4 _ hw) (k_R (fun r9 h10 hw => ?_))
    refine r_astore_nO (x := r9) (L' := [(2, va_rf r9), (0, .ref x0), (1, .ref x1)]) C rfl (by decide) rfl dX2_copy_60 ?_
    obtain ⟨k9, hw⟩ := hw
    exact r_sub C [1, 2, 0] rfl (b_X2_copy_61 C _ _ _ _ _ _ _ hp13 hp14 hw)
  · have hw := hw.2 hc5
    refine r_aload_n C rfl 2 rfl dX2_copy_27 ?_
    obtain ⟨hq15, hw⟩ := hw
    refine r_callF (ci := 13) (rest := []) (As := []) C (x := ⟨"java/util/Iterator", "next", "()Ljava/lang/Object;"⟩) (show ySg ⟨"java/util/Iterator", "next", "()Ljava/lang/Object;"⟩ 0 = true by decide +kernel) rfl q1198 q1298 q1300 q110 q1302 (List.mem_of_getElem? (i := 19) rfl) rfl (Nat.le_of_ble_eq_true rfl) dX2_copy_28 rfl hq15 b1 b2 (cj_J25_next G l y1 h4 _ hw) (k_R (fun r16 h17 hw => ?_))
    obtain ⟨e19, hw⟩ := hw
    refine r_cast (x := r16) C (ci := 3) rfl q803 dX2_copy_33 e19 ?_
    refine r_astore_nO (x := r16) (L' := [(3, va_rf r16), (0, .ref x0), (1, .ref x1), (2, .ref y1)]) C rfl (by decide) rfl dX2_copy_36 (r_aload_n C rfl 2 rfl dX2_copy_37 ?_)
    refine r_gfR (k := 0) C kX2 (by decide) (Or.inl q301) (Or.inl rfl) dX2_copy_38 hw (fun v20 hw => ?_)
    refine r_aload_nO C rfl 0 rfl dX2_copy_41 ?_
    obtain ⟨y21, rfl, hw_y21⟩ := hw
    have hw := hw_y21
    obtain ⟨y22, rfl, hw_y22⟩ := hw
    have hw := hw_y22
    obtain ⟨hq23, hw⟩ := hw
    obtain ⟨k26, k27, hp28, hp29, hw⟩ := hw
    refine r_callF (ci := 8) (rest := []) (As := [.ref y22]) C (x := ⟨"java/util/List", "add", "(Ljava/lang/Object;)Z"⟩) (show ySg ⟨"java/util/List", "add", "(Ljava/lang/Object;)Z"⟩ 1 = true by decide +kernel) rfl q192 q196 q198 q81 q200 (List.mem_of_getElem? (i := 0) rfl) rfl (Nat.le_of_ble_eq_true rfl) dX2_copy_42 rfl hq23 hp28 hp29 (cj_J2_add G l k26 k27 y21 y22 h17 _ hw) (k_Z (fun r24 h25 hw => ?_))
    refine r_pop C rfl dX2_copy_47 (r_goto (tgt := 18) C (by decide) dX2_copy_48 ?_)
    exact r_sub C [1, 2, 3] rfl (hLA18 _ _ _ _ _ _ hp28 hp29 hw)
theorem b_X2_copy_18 {G : gT} {l : Launch} {V : Hp → Nat → Nat → Nat → List (Nat × Value) → List Value → Prop} {mc ms : Nat} {Q : Option Nat → Hp → Prop} (C : Cx G l V cX2_copy 5 RX2 8 214 mc ms (pR Q) none (some (.object "CordSeals$Collection")) [] false) : ∀ (k : Nat) (h : Hp) (c : Nat) (n : Nat) (x0 : Nat) (x1 : Nat) (x2 : Option Nat), c ≤ mc → n ≤ ms → B_X2_copy_18 mc ms Q k h c n x0 x1 x2 → V h c n 18 [(0, .ref x0), (1, .ref x1), (2, va_rf x2)] [] := by
  intro k
  induction k with
  | zero =>
    intro h c n x0 x1 x2 b1 b2 hw
    exact hw.elim
  | succ k ih =>
    intro h c n x0 x1 x2 b1 b2 hw
    exact s_X2_copy_18 C _ (fun h c n x0 x1 x2 b1 b2 hw => ih h c n x0 x1 x2 b1 b2 hw) h c n x0 x1 x2 b1 b2 hw
theorem sg_X2_copy : ySg yX2_copy 0 = true := by decide +kernel
theorem c_X2_copy (G : gT) (l : Launch) (mc ms : Nat) (a0 : Nat) (h : Hp) (Q : Option Nat → Hp → Prop) (hw : w_X2_copy mc ms a0 h Q) : Ct G l yX2_copy (ws_ yX2_copy cX2_copy 5 (some (.object "CordSeals$Collection"))) 8 214 mc ms [.ref a0] h (pR Q) := by
  refine Ct.of (own := RX2) false (by decide +kernel) rfl (show (_ : Nat) ≤ _ from Nat.le_of_ble_eq_true rfl) (fun z => by cases z) (fun V C => ?_)
  show V h 0 0 0 [(0, .ref a0)] []
  unfold w_X2_copy at hw
  obtain ⟨hp160, hp161, hw⟩ := hw
  refine r_new C kX2 q1765 q131 q78 df_1 dX2_copy_0 hp160 hp161 hw (fun q162 h163 hw => ?_)
  refine r_dup C rfl dX2_copy_3 ?_
  obtain ⟨k166, k167, hp168, hp169, hw⟩ := hw
  refine r_callI (rest := [.ref q162]) (As := []) C sg_X2_init rfl q1766 q133 q78 q134 rfl (Nat.le_of_ble_eq_true rfl) dX2_copy_4 rfl hp168 hp169 (c_X2_init G l k166 k167 q162 h163 _ hw) (k_V (fun h165 hw => ?_))
  refine r_astore_n (L' := [(1, .ref q162), (0, .ref a0)]) C rfl (by decide) rfl dX2_copy_7 (r_aload_n C rfl 1 rfl dX2_copy_8 ?_)
  refine r_gfR (k := 0) C kX2 (by decide) (Or.inl q301) (Or.inl rfl) dX2_copy_9 hw (fun v170 hw => ?_)
  obtain ⟨y171, rfl, hw_y171⟩ := hw
  have hw := hw_y171
  obtain ⟨hq172, hw⟩ := hw
  obtain ⟨k175, k176, hp177, hp178, hw⟩ := hw
  refine r_callF (ci := 8) (rest := []) (As := []) C (x := ⟨"java/util/List", "iterator", "()Ljava/util/Iterator;"⟩) (show ySg ⟨"java/util/List", "iterator", "()Ljava/util/Iterator;"⟩ 0 = true by decide +kernel) rfl q1048 q1051 q1053 q81 q1055 (List.mem_of_getElem? (i := 10) rfl) rfl (Nat.le_of_ble_eq_true rfl) dX2_copy_12 rfl hq172 hp177 hp178 (cj_J2_iterator G l k175 k176 y171 h165 _ hw) (k_R (fun r173 h174 hw => ?_))
  refine r_astore_nO (x := r173) (L' := [(2, va_rf r173), (1, .ref q162), (0, .ref a0)]) C rfl (by decide) rfl dX2_copy_17 ?_
  obtain ⟨k9, hw⟩ := hw
  exact r_sub C [2, 1, 0] rfl (b_X2_copy_18 C _ _ _ _ _ _ _ hp177 hp178 hw)
def w_X5_hasCracks (a0 : Nat) (i1 : Int32) (h : Hp) (Q : Bool → Hp → Prop) : Prop :=
  gfR h a0 4 3 (fun v1 => nn v1 (fun y2 => hasC h y2 8 ∧ (wj_J2_size y2 h (fun r4 h5 => w_X1_isIn i1.toInt64 (0 : Int64) ((((1 : Int32) <<< (r4 &&& 31)) - (1 : Int32)).toInt64) h5 (fun r6 h7 => Q r6 h7)))))
theorem sg_X5_hasCracks : ySg yX5_hasCracks 1 = true := by decide +kernel
theorem c_X5_hasCracks (G : gT) (l : Launch) (a0 : Nat) (i1 : Int32) (h : Hp) (Q : Bool → Hp → Prop) (hw : w_X5_hasCracks a0 i1 h Q) : Ct G l yX5_hasCracks (ws_ yX5_hasCracks cX5_hasCracks 2 (some .boolean)) 2 37 0 0 [.ref a0, .int i1] h (pZ Q) := by
  refine Ct.of (own := RX5) false (by decide +kernel) rfl (show (_ : Nat) ≤ _ from Nat.le_of_ble_eq_true rfl) (fun z => by cases z) (fun V C => ?_)
  show V h 0 0 0 [(0, .ref a0), (1, .int i1)] []
  unfold w_X5_hasCracks at hw
  refine r_iload_n C rfl 1 rfl dX5_hasCracks_0 (r_i2l C dX5_hasCracks_1 (r_lconst (v := (0 : Int64)) C (by decide) dX5_hasCracks_2 (r_iconst (v := (1 : Int32)) C (by decide) dX5_hasCracks_3 (r_aload_n C rfl 0 rfl dX5_hasCracks_4 ?_))))
  refine r_gfR (k := 3) C kX5 (by decide) (Or.inl q864) (Or.inl rfl) dX5_hasCracks_5 hw (fun v1 hw => ?_)
  obtain ⟨y2, rfl, hw_y2⟩ := hw
  have hw := hw_y2
  obtain ⟨hq3, hw⟩ := hw
  refine r_callF (ci := 8) (rest := [.int (1 : Int32), .long (0 : Int64), .long i1.toInt64]) (As := []) C (x := ⟨"java/util/List", "size", "()I"⟩) (show ySg ⟨"java/util/List", "size", "()I"⟩ 0 = true by decide +kernel) rfl q894 q414 q416 q81 q418 (List.mem_of_getElem? (i := 2) rfl) rfl (Nat.le_of_ble_eq_true rfl) dX5_hasCracks_8 rfl hq3 (Nat.le_refl _) (Nat.le_refl _) (cj_J2_size G l y2 h _ hw) (k_I (fun r4 h5 hw => ?_))
  refine r_ishl C dX5_hasCracks_13 (r_iconst (v := (1 : Int32)) C (by decide) dX5_hasCracks_14 (r_isub C dX5_hasCracks_15 (r_i2l C dX5_hasCracks_16 ?_)))
  refine r_callSN (rest := []) (As := [.long i1.toInt64, .long (0 : Int64), .long ((((1 : Int32) <<< (r4 &&& 31)) - (1 : Int32)).toInt64)]) C sg_X1_isIn (List.mem_of_getElem? (i := 26) rfl) q400 q77 q401 rfl (Nat.le_of_ble_eq_true rfl) dX5_hasCracks_17 rfl (Nat.le_refl _) (Nat.le_refl _) (c_X1_isIn G l i1.toInt64 (0 : Int64) ((((1 : Int32) <<< (r4 &&& 31)) - (1 : Int32)).toInt64) h5 _ hw) (k_Z (fun r6 h7 hw => ?_))
  exact r_zreturn (x := r6) C dX5_hasCracks_20 (Nat.le_refl _) (Nat.le_refl _) ⟨_, rfl, hw⟩
def w_X2_canShow (a0 : Nat) (i1 : Int32) (i2 : Int32) (h : Hp) (Q : Bool → Hp → Prop) : Prop :=
  hasC h a0 1 ∧ (w_X2_hasSeal a0 i1 h (fun r2 h3 => (r2 = false → Q false h3) ∧ (r2 = true → gfR h3 a0 1 1 (fun v5 => gfR h3 a0 1 2 (fun v6 => nn v6 (fun y7 => hasC h3 y7 8 ∧ (wj_J2_get y7 i1 h3 (fun r9 h10 => (∀ z11 : Nat, r9 = some z11 → hasC h10 z11 5) ∧ (nn r9 (fun y13 => gfI h10 y13 5 0 (fun v14 => nn v5 (fun y15 => hasC h10 y15 8 ∧ (wj_J2_get y15 v14 h10 (fun r17 h18 => (∀ z19 : Nat, r17 = some z19 → hasC h18 z19 4) ∧ (nn r17 (fun y21 => hasC h18 y21 4 ∧ (w_X5_hasCracks y21 i2 h18 (fun r23 h24 => Q (if r23 = false then false else true) h24))))))))))))))))))
theorem sg_X2_canShow : ySg yX2_canShow 2 = true := by decide +kernel
theorem c_X2_canShow (G : gT) (l : Launch) (a0 : Nat) (i1 : Int32) (i2 : Int32) (h : Hp) (Q : Bool → Hp → Prop) (hw : w_X2_canShow a0 i1 i2 h Q) : Ct G l yX2_canShow (ws_ yX2_canShow cX2_canShow 3 (some .boolean)) 4 76 0 0 [.ref a0, .int i1, .int i2] h (pZ Q) := by
  refine Ct.of (own := RX2) false (by decide +kernel) rfl (show (_ : Nat) ≤ _ from Nat.le_of_ble_eq_true rfl) (fun z => by cases z) (fun V C => ?_)
  show V h 0 0 0 [(0, .ref a0), (1, .int i1), (2, .int i2)] []
  unfold w_X2_canShow at hw
  refine r_aload_n C rfl 0 rfl dX2_canShow_0 (r_iload_n C rfl 1 rfl dX2_canShow_1 ?_)
  obtain ⟨hq1, hw⟩ := hw
  refine r_callV (ci := 1) (rest := []) (As := [.int i1]) C sg_X2_hasSeal rfl rfl q1836 q1036 q1037 q78 q1038 rfl (Nat.le_of_ble_eq_true rfl) dX2_canShow_2 rfl hq1 (Nat.le_refl _) (Nat.le_refl _) (c_X2_hasSeal G l a0 i1 h _ hw) (k_Z (fun r2 h3 hw => ?_))
  refine r_if_eq_b (tgt := 47) C (by decide) dX2_canShow_5 (fun hc4 => ?_) (fun hc4 => ?_)
  · have hw := hw.1 hc4
    refine r_iconst (v := (0 : Int32)) C (by decide) dX2_canShow_47 ?_
    exact r_zreturn (x := false) C dX2_canShow_48 (Nat.le_refl _) (Nat.le_refl _) ⟨_, rfl, hw⟩
  · have hw := hw.2 hc4
    refine r_aload_n C rfl 0 rfl dX2_canShow_8 ?_
    refine r_gfR (k := 1) C kX2 (by decide) (Or.inl q303) (Or.inl rfl) dX2_canShow_9 hw (fun v5 hw => ?_)
    refine r_aload_n C rfl 0 rfl dX2_canShow_12 ?_
    refine r_gfR (k := 2) C kX2 (by decide) (Or.inl q305) (Or.inl rfl) dX2_canShow_13 hw (fun v6 hw => ?_)
    refine r_iload_n C rfl 1 rfl dX2_canShow_16 ?_
    obtain ⟨y7, rfl, hw_y7⟩ := hw
    have hw := hw_y7
    obtain ⟨hq8, hw⟩ := hw
    refine r_callF (ci := 8) (rest := [va_rf v5]) (As := [.int i1]) C (x := ⟨"java/util/List", "get", "(I)Ljava/lang/Object;"⟩) (show ySg ⟨"java/util/List", "get", "(I)Ljava/lang/Object;"⟩ 1 = true by decide +kernel) rfl q450 q453 q455 q81 q457 (List.mem_of_getElem? (i := 6) rfl) rfl (by rcases v5 with _ | _ <;> exact Nat.le_of_ble_eq_true rfl) dX2_canShow_17 rfl hq8 (Nat.le_refl _) (Nat.le_refl _) (cj_J2_get G l y7 i1 h3 _ hw) (k_R (fun r9 h10 hw => ?_))
    obtain ⟨e12, hw⟩ := hw
    refine r_cast (x := r9) C (ci := 5) rfl q992 dX2_canShow_22 e12 ?_
    obtain ⟨y13, rfl, hw_y13⟩ := hw
    have hw := hw_y13
    refine r_gfI (k := 0) C kX6 (by decide) (Or.inr ⟨_, (List.mem_of_getElem? (i := 27) rfl)⟩) (Or.inl rfl) dX2_canShow_25 hw (fun v14 hw => ?_)
    obtain ⟨y15, rfl, hw_y15⟩ := hw
    have hw := hw_y15
    obtain ⟨hq16, hw⟩ := hw
    refine r_callF (ci := 8) (rest := []) (As := [.int v14]) C (x := ⟨"java/util/List", "get", "(I)Ljava/lang/Object;"⟩) (show ySg ⟨"java/util/List", "get", "(I)Ljava/lang/Object;"⟩ 1 = true by decide +kernel) rfl q450 q453 q455 q81 q457 (List.mem_of_getElem? (i := 6) rfl) rfl (Nat.le_of_ble_eq_true rfl) dX2_canShow_28 rfl hq16 (Nat.le_refl _) (Nat.le_refl _) (cj_J2_get G l y15 v14 h10 _ hw) (k_R (fun r17 h18 hw => ?_))
    obtain ⟨e20, hw⟩ := hw
    refine r_cast (x := r17) C (ci := 4) rfl q847 dX2_canShow_33 e20 ?_
    refine r_iload_n C rfl 2 rfl dX2_canShow_36 ?_
    obtain ⟨y21, rfl, hw_y21⟩ := hw
    have hw := hw_y21
    obtain ⟨hq22, hw⟩ := hw
    refine r_callV (ci := 4) (rest := []) (As := [.int i2]) C sg_X5_hasCracks rfl rfl q1837 q984 q985 q107 q986 rfl (Nat.le_of_ble_eq_true rfl) dX2_canShow_37 rfl hq22 (Nat.le_refl _) (Nat.le_refl _) (c_X5_hasCracks G l y21 i2 h18 _ hw) (k_Z (fun r23 h24 hw => ?_))
    have hJ : V h24 0 0 48 [] [.int (bI (if r23 = false then false else true))] := by
      exact r_zreturn (x := (if r23 = false then false else true)) C dX2_canShow_48 (Nat.le_refl _) (Nat.le_refl _) ⟨_, rfl, hw⟩
    refine r_if_eq_b (tgt := 47) C (by decide) dX2_canShow_40 (fun hc25 => ?_) (fun hc25 => ?_)
    · have hJ26 := hJ
      try simp only [if_pos hc25] at hJ26
      refine r_iconst (v := (0 : Int32)) C (by decide) dX2_canShow_47 ?_
      exact r_sub C [] rfl hJ26
    · have hJ26 := hJ
      try simp only [if_neg (show ¬ r23 = false from by rw [hc25]; decide)] at hJ26
      refine r_iconst (v := (1 : Int32)) C (by decide) dX2_canShow_43 (r_goto (tgt := 48) C (by decide) dX2_canShow_44 ?_)
      exact r_sub C [] rfl hJ26
def w_X2_show (a0 : Nat) (i1 : Int32) (i2 : Int32) (h : Hp) (Q : Int32 → Hp → Prop) : Prop :=
  gfR h a0 1 2 (fun v1 => nn v1 (fun y2 => hasC h y2 8 ∧ (wj_J2_get y2 i1 h (fun r4 h5 => (∀ z6 : Nat, r4 = some z6 → hasC h5 z6 5) ∧ (nn r4 (fun y8 => gfI h5 y8 5 4 (fun v9 => gfR h5 a0 1 2 (fun v10 => nn v10 (fun y11 => hasC h5 y11 8 ∧ (wj_J2_get y11 i1 h5 (fun r13 h14 => (∀ z15 : Nat, r13 = some z15 → hasC h14 z15 5) ∧ (nn r13 (fun y17 => pf h14 y17 5 4 (.int i2) (fun h18 => pf h18 a0 1 5 (va_rf none) (fun h19 => Q v9 h19)))))))))))))))
theorem sg_X2_show : ySg yX2_show 2 = true := by decide +kernel
theorem c_X2_show (G : gT) (l : Launch) (a0 : Nat) (i1 : Int32) (i2 : Int32) (h : Hp) (Q : Int32 → Hp → Prop) (hw : w_X2_show a0 i1 i2 h Q) : Ct G l yX2_show (ws_ yX2_show cX2_show 4 (some .int)) 4 76 0 0 [.ref a0, .int i1, .int i2] h (pI Q) := by
  refine Ct.of (own := RX2) false (by decide +kernel) rfl (show (_ : Nat) ≤ _ from Nat.le_of_ble_eq_true rfl) (fun z => by cases z) (fun V C => ?_)
  show V h 0 0 0 [(0, .ref a0), (1, .int i1), (2, .int i2)] []
  unfold w_X2_show at hw
  refine r_aload_n C rfl 0 rfl dX2_show_0 ?_
  refine r_gfR (k := 2) C kX2 (by decide) (Or.inl q305) (Or.inl rfl) dX2_show_1 hw (fun v1 hw => ?_)
  refine r_iload_n C rfl 1 rfl dX2_show_4 ?_
  obtain ⟨y2, rfl, hw_y2⟩ := hw
  have hw := hw_y2
  obtain ⟨hq3, hw⟩ := hw
  refine r_callF (ci := 8) (rest := []) (As := [.int i1]) C (x := ⟨"java/util/List", "get", "(I)Ljava/lang/Object;"⟩) (show ySg ⟨"java/util/List", "get", "(I)Ljava/lang/Object;"⟩ 1 = true by decide +kernel) rfl q450 q453 q455 q81 q457 (List.mem_of_getElem? (i := 6) rfl) rfl (Nat.le_of_ble_eq_true rfl) dX2_show_5 rfl hq3 (Nat.le_refl _) (Nat.le_refl _) (cj_J2_get G l y2 i1 h _ hw) (k_R (fun r4 h5 hw => ?_))
  obtain ⟨e7, hw⟩ := hw
  refine r_cast (x := r4) C (ci := 5) rfl q992 dX2_show_10 e7 ?_
  obtain ⟨y8, rfl, hw_y8⟩ := hw
  have hw := hw_y8
  refine r_gfI (k := 4) C kX6 (by decide) (Or.inr ⟨_, (List.mem_of_getElem? (i := 37) rfl)⟩) (Or.inl rfl) dX2_show_13 hw (fun v9 hw => ?_)
  refine r_istore_n (L' := [(3, .int v9), (0, .ref a0), (1, .int i1), (2, .int i2)]) C rfl (by decide) rfl dX2_show_16 (r_aload_n C rfl 1 rfl dX2_show_17 ?_)
  refine r_gfR (k := 2) C kX2 (by decide) (Or.inl q305) (Or.inl rfl) dX2_show_18 hw (fun v10 hw => ?_)
  refine r_iload_n C rfl 2 rfl dX2_show_21 ?_
  obtain ⟨y11, rfl, hw_y11⟩ := hw
  have hw := hw_y11
  obtain ⟨hq12, hw⟩ := hw
  refine r_callF (ci := 8) (rest := []) (As := [.int i1]) C (x := ⟨"java/util/List", "get", "(I)Ljava/lang/Object;"⟩) (show ySg ⟨"java/util/List", "get", "(I)Ljava/lang/Object;"⟩ 1 = true by decide +kernel) rfl q450 q453 q455 q81 q457 (List.mem_of_getElem? (i := 6) rfl) rfl (Nat.le_of_ble_eq_true rfl) dX2_show_22 rfl hq12 (Nat.le_refl _) (Nat.le_refl _) (cj_J2_get G l y11 i1 h5 _ hw) (k_R (fun r13 h14 hw => ?_))
  obtain ⟨e16, hw⟩ := hw
  refine r_cast (x := r13) C (ci := 5) rfl q992 dX2_show_27 e16 ?_
  refine r_iload_n C rfl 3 rfl dX2_show_30 ?_
  obtain ⟨y17, rfl, hw_y17⟩ := hw
  have hw := hw_y17
  refine r_pf (k := 4) (v := .int i2) C kX6 (by decide) (Or.inr ⟨_, (List.mem_of_getElem? (i := 37) rfl)⟩) (Or.inl rfl) (Or.inl rfl) rfl rfl dX2_show_31 hw (fun h18 hw => ?_)
  refine r_aload_n C rfl 1 rfl dX2_show_34 (r_null C dX2_show_35 ?_)
  refine r_pf (k := 5) (v := va_rf none) C kX2 (by decide) (Or.inl q312) (Or.inl rfl) (Or.inl rfl) (n_rfA _ _) (f_rfA _ _) dX2_show_36 hw (fun h19 hw => ?_)
  refine r_iload_n C rfl 0 rfl dX2_show_39 ?_
  exact r_ireturn C dX2_show_40 (Nat.le_refl _) (Nat.le_refl _) ⟨_, rfl, hw⟩
def w_X2_cut (a0 : Nat) (i1 : Int32) (h : Hp) (Q : Int32 → Hp → Prop) : Prop :=
  gfR h a0 1 2 (fun v1 => nn v1 (fun y2 => hasC h y2 8 ∧ (wj_J2_get y2 i1 h (fun r4 h5 => (∀ z6 : Nat, r4 = some z6 → hasC h5 z6 5) ∧ (nn r4 (fun y8 => gfI h5 y8 5 5 (fun v9 => gfR h5 a0 1 2 (fun v10 => nn v10 (fun y11 => hasC h5 y11 8 ∧ (wj_J2_get y11 i1 h5 (fun r13 h14 => (∀ z15 : Nat, r13 = some z15 → hasC h14 z15 5) ∧ (nn r13 (fun y17 => pf h14 y17 5 5 (.int (-1 : Int32)) (fun h18 => Q v9 h18))))))))))))))
theorem sg_X2_cut : ySg yX2_cut 1 = true := by decide +kernel
theorem c_X2_cut (G : gT) (l : Launch) (a0 : Nat) (i1 : Int32) (h : Hp) (Q : Int32 → Hp → Prop) (hw : w_X2_cut a0 i1 h Q) : Ct G l yX2_cut (ws_ yX2_cut cX2_cut 3 (some .int)) 4 76 0 0 [.ref a0, .int i1] h (pI Q) := by
  refine Ct.of (own := RX2) false (by decide +kernel) rfl (show (_ : Nat) ≤ _ from Nat.le_of_ble_eq_true rfl) (fun z => by cases z) (fun V C => ?_)
  show V h 0 0 0 [(0, .ref a0), (1, .int i1)] []
  unfold w_X2_cut at hw
  refine r_aload_n C rfl 0 rfl dX2_cut_0 ?_
  refine r_gfR (k := 2) C kX2 (by decide) (Or.inl q305) (Or.inl rfl) dX2_cut_1 hw (fun v1 hw => ?_)
  refine r_iload_n C rfl 1 rfl dX2_cut_4 ?_
  obtain ⟨y2, rfl, hw_y2⟩ := hw
  have hw := hw_y2
  obtain ⟨hq3, hw⟩ := hw
  refine r_callF (ci := 8) (rest := []) (As := [.int i1]) C (x := ⟨"java/util/List", "get", "(I)Ljava/lang/Object;"⟩) (show ySg ⟨"java/util/List", "get", "(I)Ljava/lang/Object;"⟩ 1 = true by decide +kernel) rfl q450 q453 q455 q81 q457 (List.mem_of_getElem? (i := 6) rfl) rfl (Nat.le_of_ble_eq_true rfl) dX2_cut_5 rfl hq3 (Nat.le_refl _) (Nat.le_refl _) (cj_J2_get G l y2 i1 h _ hw) (k_R (fun r4 h5 hw => ?_))
  obtain ⟨e7, hw⟩ := hw
  refine r_cast (x := r4) C (ci := 5) rfl q992 dX2_cut_10 e7 ?_
  obtain ⟨y8, rfl, hw_y8⟩ := hw
  have hw := hw_y8
  refine r_gfI (k := 5) C kX6 (by decide) (Or.inr ⟨_, (List.mem_of_getElem? (i := 39) rfl)⟩) (Or.inl rfl) dX2_cut_13 hw (fun v9 hw => ?_)
  refine r_istore_n (L' := [(2, .int v9), (0, .ref a0), (1, .int i1)]) C rfl (by decide) rfl dX2_cut_16 (r_aload_n C rfl 1 rfl dX2_cut_17 ?_)
  refine r_gfR (k := 2) C kX2 (by decide) (Or.inl q305) (Or.inl rfl) dX2_cut_18 hw (fun v10 hw => ?_)
  refine r_iload_n C rfl 2 rfl dX2_cut_21 ?_
  obtain ⟨y11, rfl, hw_y11⟩ := hw
  have hw := hw_y11
  obtain ⟨hq12, hw⟩ := hw
  refine r_callF (ci := 8) (rest := []) (As := [.int i1]) C (x := ⟨"java/util/List", "get", "(I)Ljava/lang/Object;"⟩) (show ySg ⟨"java/util/List", "get", "(I)Ljava/lang/Object;"⟩ 1 = true by decide +kernel) rfl q450 q453 q455 q81 q457 (List.mem_of_getElem? (i := 6) rfl) rfl (Nat.le_of_ble_eq_true rfl) dX2_cut_22 rfl hq12 (Nat.le_refl _) (Nat.le_refl _) (cj_J2_get G l y11 i1 h5 _ hw) (k_R (fun r13 h14 hw => ?_))
  obtain ⟨e16, hw⟩ := hw
  refine r_cast (x := r13) C (ci := 5) rfl q992 dX2_cut_27 e16 ?_
  refine r_iconst (v := (-1 : Int32)) C (by decide) dX2_cut_30 ?_
  obtain ⟨y17, rfl, hw_y17⟩ := hw
  have hw := hw_y17
  refine r_pf (k := 5) (v := .int (-1 : Int32)) C kX6 (by decide) (Or.inr ⟨_, (List.mem_of_getElem? (i := 39) rfl)⟩) (Or.inl rfl) (Or.inl rfl) rfl rfl dX2_cut_31 hw (fun h18 hw => ?_)
  refine r_iload_n C rfl 0 rfl dX2_cut_34 ?_
  exact r_ireturn C dX2_cut_35 (Nat.le_refl _) (Nat.le_refl _) ⟨_, rfl, hw⟩
def w_X2_isPlace (mc ms : Nat) (a0 : Nat) (i1 : Int32) (i2 : Int32) (i3 : Int32) (h : Hp) (Q : Bool → Hp → Prop) : Prop :=
  gfR h a0 1 3 (fun v1 => nn v1 (fun y2 => hasC h y2 8 ∧ (wj_J2_get y2 i2 h (fun r4 h5 => (∀ z6 : Nat, r4 = some z6 → hasC h5 z6 9) ∧ (nn r4 (fun y8 => hasC h5 y8 9 ∧ (wj_J4_size y8 h5 (fun r10 h11 => hasC h11 a0 1 ∧ (∃ k15 k16 : Nat, 0 + k15 ≤ mc ∧ 0 + k16 ≤ ms ∧ (w_X2_shelfOf k15 k16 a0 i1 h11 (fun r13 h14 => w_X1_isIn i3.toInt64 (0 : Int64) ((r10 - (bI (if ¬ r13 = i2 then false else true))).toInt64) h14 (fun r19 h20 => Q r19 h20))))))))))))
theorem sg_X2_isPlace : ySg yX2_isPlace 3 = true := by decide +kernel
theorem c_X2_isPlace (G : gT) (l : Launch) (mc ms : Nat) (a0 : Nat) (i1 : Int32) (i2 : Int32) (i3 : Int32) (h : Hp) (Q : Bool → Hp → Prop) (hw : w_X2_isPlace mc ms a0 i1 i2 i3 h Q) : Ct G l yX2_isPlace (ws_ yX2_isPlace cX2_isPlace 5 (some .boolean)) 6 119 mc ms [.ref a0, .int i1, .int i2, .int i3] h (pZ Q) := by
  refine Ct.of (own := RX2) false (by decide +kernel) rfl (show (_ : Nat) ≤ _ from Nat.le_of_ble_eq_true rfl) (fun z => by cases z) (fun V C => ?_)
  show V h 0 0 0 [(0, .ref a0), (1, .int i1), (2, .int i2), (3, .int i3)] []
  unfold w_X2_isPlace at hw
  refine r_aload_n C rfl 0 rfl dX2_isPlace_0 ?_
  refine r_gfR (k := 3) C kX2 (by decide) (Or.inl q308) (Or.inl rfl) dX2_isPlace_1 hw (fun v1 hw => ?_)
  refine r_iload_n C rfl 2 rfl dX2_isPlace_4 ?_
  obtain ⟨y2, rfl, hw_y2⟩ := hw
  have hw := hw_y2
  obtain ⟨hq3, hw⟩ := hw
  refine r_callF (ci := 8) (rest := []) (As := [.int i2]) C (x := ⟨"java/util/List", "get", "(I)Ljava/lang/Object;"⟩) (show ySg ⟨"java/util/List", "get", "(I)Ljava/lang/Object;"⟩ 1 = true by decide +kernel) rfl q450 q453 q455 q81 q457 (List.mem_of_getElem? (i := 6) rfl) rfl (Nat.le_of_ble_eq_true rfl) dX2_isPlace_5 rfl hq3 (Nat.zero_le _) (Nat.zero_le _) (cj_J2_get G l y2 i2 h _ hw) (k_R (fun r4 h5 hw => ?_))
  obtain ⟨e7, hw⟩ := hw
  refine r_cast (x := r4) C (ci := 9) rfl q169 dX2_isPlace_10 e7 ?_
  obtain ⟨y8, rfl, hw_y8⟩ := hw
  have hw := hw_y8
  obtain ⟨hq9, hw⟩ := hw
  refine r_callV (ci := 9) (rest := []) (As := []) C sg_J4_size rfl rfl q1545 q421 q2649 q83 q423 rfl (Nat.le_of_ble_eq_true rfl) dX2_isPlace_13 rfl hq9 (Nat.zero_le _) (Nat.zero_le _) (cj_J4_size G l y8 h5 _ hw) (k_I (fun r10 h11 hw => ?_))
  refine r_aload_n C rfl 0 rfl dX2_isPlace_16 (r_iload_n C rfl 1 rfl dX2_isPlace_17 ?_)
  obtain ⟨hq12, hw⟩ := hw
  obtain ⟨k15, k16, hp17, hp18, hw⟩ := hw
  refine r_callV (ci := 1) (rest := [.int r10]) (As := [.int i1]) C sg_X2_shelfOf rfl rfl q1871 q1637 q1638 q78 q1639 rfl (Nat.le_of_ble_eq_true rfl) dX2_isPlace_18 rfl hq12 hp17 hp18 (c_X2_shelfOf G l k15 k16 a0 i1 h11 _ hw) (k_I (fun r13 h14 hw => ?_))
  refine r_iload_n C rfl 2 rfl dX2_isPlace_21 ?_
  have hJ : V h14 (0 + k15) (0 + k16) 30 [(3, .int i3)] [.int (bI (if ¬ r13 = i2 then false else true)), .int r10] := by
    refine r_isub C dX2_isPlace_30 (r_istore (L' := [(4, .int (r10 - (bI (if ¬ r13 = i2 then false else true)))), (3, .int i3)]) C (by decide) rfl dX2_isPlace_31 (r_iload_n C rfl 1 rfl dX2_isPlace_33 (r_i2l C dX2_isPlace_34 (r_lconst (v := (0 : Int64)) C (by decide) dX2_isPlace_35 (r_iload C 0 rfl dX2_isPlace_36 ?_)))))
    refine r_i2l C dX2_isPlace_38 ?_
    refine r_callSN (rest := []) (As := [.long i3.toInt64, .long (0 : Int64), .long ((r10 - (bI (if ¬ r13 = i2 then false else true))).toInt64)]) C sg_X1_isIn (List.mem_of_getElem? (i := 25) rfl) q400 q77 q401 rfl (Nat.le_of_ble_eq_true rfl) dX2_isPlace_39 rfl hp17 hp18 (c_X1_isIn G l i3.toInt64 (0 : Int64) ((r10 - (bI (if ¬ r13 = i2 then false else true))).toInt64) h14 _ hw) (k_Z (fun r19 h20 hw => ?_))
    exact r_zreturn (x := r19) C dX2_isPlace_42 hp17 hp18 ⟨_, rfl, hw⟩
  refine r_icmp_ne (tgt := 29) C (by decide) dX2_isPlace_22 (fun hc21 => ?_) (fun hc21 => ?_)
  · have hJ22 := hJ
    try simp only [if_pos hc21] at hJ22
    refine r_iconst (v := (0 : Int32)) C (by decide) dX2_isPlace_29 ?_
    exact r_sub C [3] rfl hJ22
  · have hJ22 := hJ
    try simp only [if_neg (show ¬ ¬ r13 = i2 from fun z => z hc21)] at hJ22
    refine r_iconst (v := (1 : Int32)) C (by decide) dX2_isPlace_25 (r_goto (tgt := 30) C (by decide) dX2_isPlace_26 ?_)
    exact r_sub C [3] rfl hJ22
def w_X2_houseOf (a0 : Nat) (i1 : Int32) (h : Hp) (Q : Int32 → Hp → Prop) : Prop :=
  gfR h a0 1 1 (fun v1 => gfR h a0 1 2 (fun v2 => nn v2 (fun y3 => hasC h y3 8 ∧ (wj_J2_get y3 i1 h (fun r5 h6 => (∀ z7 : Nat, r5 = some z7 → hasC h6 z7 5) ∧ (nn r5 (fun y9 => gfI h6 y9 5 0 (fun v10 => nn v1 (fun y11 => hasC h6 y11 8 ∧ (wj_J2_get y11 v10 h6 (fun r13 h14 => (∀ z15 : Nat, r13 = some z15 → hasC h14 z15 4) ∧ (nn r13 (fun y17 => gfI h14 y17 4 0 (fun v18 => Q v18 h14))))))))))))))
theorem sg_X2_houseOf : ySg yX2_houseOf 1 = true := by decide +kernel
theorem c_X2_houseOf (G : gT) (l : Launch) (a0 : Nat) (i1 : Int32) (h : Hp) (Q : Int32 → Hp → Prop) (hw : w_X2_houseOf a0 i1 h Q) : Ct G l yX2_houseOf (ws_ yX2_houseOf cX2_houseOf 2 (some .int)) 4 76 0 0 [.ref a0, .int i1] h (pI Q) := by
  refine Ct.of (own := RX2) false (by decide +kernel) rfl (show (_ : Nat) ≤ _ from Nat.le_of_ble_eq_true rfl) (fun z => by cases z) (fun V C => ?_)
  show V h 0 0 0 [(0, .ref a0), (1, .int i1)] []
  unfold w_X2_houseOf at hw
  refine r_aload_n C rfl 0 rfl dX2_houseOf_0 ?_
  refine r_gfR (k := 1) C kX2 (by decide) (Or.inl q303) (Or.inl rfl) dX2_houseOf_1 hw (fun v1 hw => ?_)
  refine r_aload_n C rfl 0 rfl dX2_houseOf_4 ?_
  refine r_gfR (k := 2) C kX2 (by decide) (Or.inl q305) (Or.inl rfl) dX2_houseOf_5 hw (fun v2 hw => ?_)
  refine r_iload_n C rfl 1 rfl dX2_houseOf_8 ?_
  obtain ⟨y3, rfl, hw_y3⟩ := hw
  have hw := hw_y3
  obtain ⟨hq4, hw⟩ := hw
  refine r_callF (ci := 8) (rest := [va_rf v1]) (As := [.int i1]) C (x := ⟨"java/util/List", "get", "(I)Ljava/lang/Object;"⟩) (show ySg ⟨"java/util/List", "get", "(I)Ljava/lang/Object;"⟩ 1 = true by decide +kernel) rfl q450 q453 q455 q81 q457 (List.mem_of_getElem? (i := 6) rfl) rfl (by rcases v1 with _ | _ <;> exact Nat.le_of_ble_eq_true rfl) dX2_houseOf_9 rfl hq4 (Nat.le_refl _) (Nat.le_refl _) (cj_J2_get G l y3 i1 h _ hw) (k_R (fun r5 h6 hw => ?_))
  obtain ⟨e8, hw⟩ := hw
  refine r_cast (x := r5) C (ci := 5) rfl q992 dX2_houseOf_14 e8 ?_
  obtain ⟨y9, rfl, hw_y9⟩ := hw
  have hw := hw_y9
  refine r_gfI (k := 0) C kX6 (by decide) (Or.inr ⟨_, (List.mem_of_getElem? (i := 27) rfl)⟩) (Or.inl rfl) dX2_houseOf_17 hw (fun v10 hw => ?_)
  obtain ⟨y11, rfl, hw_y11⟩ := hw
  have hw := hw_y11
  obtain ⟨hq12, hw⟩ := hw
  refine r_callF (ci := 8) (rest := []) (As := [.int v10]) C (x := ⟨"java/util/List", "get", "(I)Ljava/lang/Object;"⟩) (show ySg ⟨"java/util/List", "get", "(I)Ljava/lang/Object;"⟩ 1 = true by decide +kernel) rfl q450 q453 q455 q81 q457 (List.mem_of_getElem? (i := 6) rfl) rfl (Nat.le_of_ble_eq_true rfl) dX2_houseOf_20 rfl hq12 (Nat.le_refl _) (Nat.le_refl _) (cj_J2_get G l y11 v10 h6 _ hw) (k_R (fun r13 h14 hw => ?_))
  obtain ⟨e16, hw⟩ := hw
  refine r_cast (x := r13) C (ci := 4) rfl q847 dX2_houseOf_25 e16 ?_
  obtain ⟨y17, rfl, hw_y17⟩ := hw
  have hw := hw_y17
  refine r_gfI (k := 0) C kX5 (by decide) (Or.inr ⟨_, (List.mem_of_getElem? (i := 16) rfl)⟩) (Or.inl rfl) dX2_houseOf_28 hw (fun v18 hw => ?_)
  exact r_ireturn C dX2_houseOf_31 (Nat.le_refl _) (Nat.le_refl _) ⟨_, rfl, hw⟩
def B_X2_others_67 (mc ms : Nat) (Q : Int32 → Hp → Prop) (LA20 : Hp → Nat → Nat → Nat → Int32 → Int32 → (Option Nat) → Prop) (h : Hp) (c : Nat) (n : Nat) (x0 : Nat) (x1 : Int32) (x3 : Int32) (x4 : Option Nat) (x5 : Int32) : Prop :=
  LA20 h c n x0 x1 (x3 + (bI (if ¬ x5 = x1 then true else false))) x4
def S_X2_others_20 (mc ms : Nat) (Q : Int32 → Hp → Prop) (LA20 : Hp → Nat → Nat → Nat → Int32 → Int32 → (Option Nat) → Prop) (h : Hp) (c : Nat) (n : Nat) (x0 : Nat) (x1 : Int32) (x3 : Int32) (x4 : Option Nat) : Prop :=
  nn x4 (fun y1 => hasC h y1 14 ∧ (wj_J28_hasNext y1 h (fun r3 h4 => (r3 = false → Q x3 h4) ∧ (r3 = true → hasC h4 y1 14 ∧ (wj_J28_next y1 h4 (fun r7 h8 => (∀ z9 : Nat, r7 = some z9 → hasC h8 z9 12) ∧ (nn r7 (fun y11 => hasC h8 y11 12 ∧ (wj_J24_intValue y11 h8 (fun r13 h14 => (r13 = x1 → B_X2_others_67 mc ms Q LA20 h14 c n x0 x1 x3 (some y1) r13) ∧ (¬ r13 = x1 → hasC h14 x0 1 ∧ (w_X2_houseOf x0 r13 h14 (fun r17 h18 => hasC h18 x0 1 ∧ (w_X2_houseOf x0 x1 h18 (fun r20 h21 => (r17 = r20 → B_X2_others_67 mc ms Q LA20 h21 c n x0 x1 x3 (some y1) r13) ∧ (¬ r17 = r20 → Q (-1 : Int32) h21))))))))))))))))
def B_X2_others_20 (mc ms : Nat) (Q : Int32 → Hp → Prop) : Nat → Hp → Nat → Nat → Nat → Int32 → Int32 → (Option Nat) → Prop
  | 0, _, _, _, _, _, _, _ => False
  | k + 1, h, c, n, x0, x1, x3, x4 => S_X2_others_20 mc ms Q (B_X2_others_20 mc ms Q k) h c n x0 x1 x3 x4
def w_X2_others (mc ms : Nat) (a0 : Nat) (i1 : Int32) (i2 : Int32) (h : Hp) (Q : Int32 → Hp → Prop) : Prop :=
  gfR h a0 1 3 (fun v25 => nn v25 (fun y26 => hasC h y26 8 ∧ (wj_J2_get y26 i2 h (fun r28 h29 => (∀ z30 : Nat, r28 = some z30 → hasC h29 z30 9) ∧ (nn r28 (fun y32 => hasC h29 y32 9 ∧ (∃ k36 k37 : Nat, 0 + k36 ≤ mc ∧ 0 + k37 ≤ ms ∧ (wj_J3_iterator k36 k37 y32 h29 (fun r34 h35 => ∃ k9 : Nat, B_X2_others_20 mc ms Q k9 h35 (0 + k36) (0 + k37) a0 i1 (0 : Int32) r34)))))))))
theorem b_X2_others_67 {G : gT} {l : Launch} {V : Hp → Nat → Nat → Nat → List (Nat × Value) → List Value → Prop} {mc ms : Nat} {Q : Int32 → Hp → Prop} (C : Cx G l V cX2_others 6 RX2 6 118 mc ms (pI Q) none (some .int) [] false) (LA20 : Hp → Nat → Nat → Nat → Int32 → Int32 → (Option Nat) → Prop) (hLA20 : ∀ (h : Hp) (c : Nat) (n : Nat) (x0 : Nat) (x1 : Int32) (x3 : Int32) (x4 : Option Nat), c ≤ mc → n ≤ ms → LA20 h c n x0 x1 x3 x4 → V h c n 20 [(0, .ref x0), (1, .int x1), (3, .int x3), (4, va_rf x4)] []) (h : Hp) (c : Nat) (n : Nat) (x0 : Nat) (x1 : Int32) (x3 : Int32) (x4 : Option Nat) (x5 : Int32) (b1 : c ≤ mc) (b2 : n ≤ ms) (hw : B_X2_others_67 mc ms Q LA20 h c n x0 x1 x3 x4 x5) : V h c n 67 [(0, .ref x0), (1, .int x1), (3, .int x3), (4, va_rf x4), (5, .int x5)] [] := by
  unfold B_X2_others_67 at hw
  refine r_iload_n C rfl 2 rfl dX2_others_67 (r_iload C 4 rfl dX2_others_68 (r_iload_n C rfl 1 rfl dX2_others_70 ?_))
  have hJ : V h c n 79 [(0, .ref x0), (1, .int x1), (4, va_rf x4)] [.int (bI (if ¬ x5 = x1 then true else false)), .int x3] := by
    refine r_iadd C dX2_others_79 (r_istore_n (L' := [(3, .int (x3 + (bI (if ¬ x5 = x1 then true else false)))), (0, .ref x0), (1, .int x1), (4, va_rf x4)]) C rfl (by decide) rfl dX2_others_80 (r_goto (tgt := 20) C (by decide) dX2_others_81 ?_))
    exact r_sub C [1, 2, 0, 3] rfl (hLA20 _ _ _ _ _ _ _ b1 b2 hw)
  refine r_icmp_ne (tgt := 78) C (by decide) dX2_others_71 (fun hc23 => ?_) (fun hc23 => ?_)
  · have hJ24 := hJ
    try simp only [if_pos hc23] at hJ24
    refine r_iconst (v := (1 : Int32)) C (by decide) dX2_others_78 ?_
    exact r_sub C [0, 1, 3] rfl hJ24
  · have hJ24 := hJ
    try simp only [if_neg (show ¬ ¬ x5 = x1 from fun z => z hc23)] at hJ24
    refine r_iconst (v := (0 : Int32)) C (by decide) dX2_others_74 (r_goto (tgt := 79) C (by decide) dX2_others_75 ?_)
    exact r_sub C [0, 1, 3] rfl hJ24
theorem s_X2_others_20 {G : gT} {l : Launch} {V : Hp → Nat → Nat → Nat → List (Nat × Value) → List Value → Prop} {mc ms : Nat} {Q : Int32 → Hp → Prop} (C : Cx G l V cX2_others 6 RX2 6 118 mc ms (pI Q) none (some .int) [] false) (LA20 : Hp → Nat → Nat → Nat → Int32 → Int32 → (Option Nat) → Prop) (hLA20 : ∀ (h : Hp) (c : Nat) (n : Nat) (x0 : Nat) (x1 : Int32) (x3 : Int32) (x4 : Option Nat), c ≤ mc → n ≤ ms → LA20 h c n x0 x1 x3 x4 → V h c n 20 [(0, .ref x0), (1, .int x1), (3, .int x3), (4, va_rf x4)] []) (h : Hp) (c : Nat) (n : Nat) (x0 : Nat) (x1 : Int32) (x3 : Int32) (x4 : Option Nat) (b1 : c ≤ mc) (b2 : n ≤ ms) (hw : S_X2_others_20 mc ms Q LA20 h c n x0 x1 x3 x4) : V h c n 20 [(0, .ref x0), (1, .int x1), (3, .int x3), (4, va_rf x4)] [] := by
  unfold S_X2_others_20 at hw
  refine r_aloadO C 3 rfl dX2_others_20 ?_
  obtain ⟨y1, rfl, hw_y1⟩ := hw
  have hw := hw_y1
  obtain ⟨hq2, hw⟩ := hw
  refine r_callF (ci := 14) (rest := []) (As := []) C (x := ⟨"java/util/Iterator", "hasNext", "()Z"⟩) (show ySg ⟨"java/util/Iterator", "hasNext", "()Z"⟩ 0 = true by decide +kernel) rfl q1161 q1192 q1194 q114 q1196 (List.mem_of_getElem? (i := 16) rfl) rfl (Nat.le_of_ble_eq_true rfl) dX2_others_22 rfl hq2 b1 b2 (cj_J28_hasNext G l y1 h _ hw) (k_Z (fun r3 h4 hw => ?_))
  refine r_if_eq_b (tgt := 84) C (by decide) dX2_others_27 (fun hc5 => ?_) (fun hc5 => ?_)
  · have hw := hw.1 hc5
    refine r_iload_n C rfl 2 rfl dX2_others_84 ?_
    exact r_ireturn C dX2_others_85 b1 b2 ⟨_, rfl, hw⟩
  · have hw := hw.2 hc5
    refine r_aload C 3 rfl dX2_others_30 ?_
    obtain ⟨hq6, hw⟩ := hw
    refine r_callF (ci := 14) (rest := []) (As := []) C (x := ⟨"java/util/Iterator", "next", "()Ljava/lang/Object;"⟩) (show ySg ⟨"java/util/Iterator", "next", "()Ljava/lang/Object;"⟩ 0 = true by decide +kernel) rfl q1198 q1311 q1313 q114 q1315 (List.mem_of_getElem? (i := 21) rfl) rfl (Nat.le_of_ble_eq_true rfl) dX2_others_32 rfl hq6 b1 b2 (cj_J28_next G l y1 h4 _ hw) (k_R (fun r7 h8 hw => ?_))
    obtain ⟨e10, hw⟩ := hw
    refine r_cast (x := r7) C (ci := 12) rfl q1558 dX2_others_37 e10 ?_
    obtain ⟨y11, rfl, hw_y11⟩ := hw
    have hw := hw_y11
    obtain ⟨hq12, hw⟩ := hw
    refine r_callV (ci := 12) (rest := []) (As := []) C sg_J24_intValue rfl rfl q1559 q952 q953 q105 q954 rfl (Nat.le_of_ble_eq_true rfl) dX2_others_40 rfl hq12 b1 b2 (cj_J24_intValue G l y11 h8 _ hw) (k_I (fun r13 h14 hw => ?_))
    refine r_istore (L' := [(5, .int r13), (0, .ref x0), (1, .int x1), (3, .int x3), (4, .ref y1)]) C (by decide) rfl dX2_others_43 (r_iload C 0 rfl dX2_others_45 (r_iload_n C rfl 2 rfl dX2_others_47 ?_))
    refine r_icmp_eq (tgt := 67) C (by decide) dX2_others_48 (fun hc15 => ?_) (fun hc15 => ?_)
    · have hw := hw.1 hc15
      exact r_sub C [1, 2, 3, 4, 0] rfl (b_X2_others_67 C LA20 hLA20 _ _ _ _ _ _ _ _ b1 b2 hw)
    · have hw := hw.2 hc15
      refine r_aload_n C rfl 1 rfl dX2_others_51 (r_iload C 0 rfl dX2_others_52 ?_)
      obtain ⟨hq16, hw⟩ := hw
      refine r_callV (ci := 1) (rest := []) (As := [.int r13]) C sg_X2_houseOf rfl rfl q1880 q1881 q1882 q78 q1883 rfl (Nat.le_of_ble_eq_true rfl) dX2_others_54 rfl hq16 b1 b2 (c_X2_houseOf G l x0 r13 h14 _ hw) (k_I (fun r17 h18 hw => ?_))
      refine r_aload_n C rfl 1 rfl dX2_others_57 (r_iload_n C rfl 2 rfl dX2_others_58 ?_)
      obtain ⟨hq19, hw⟩ := hw
      refine r_callV (ci := 1) (rest := [.int r17]) (As := [.int x1]) C sg_X2_houseOf rfl rfl q1880 q1881 q1882 q78 q1883 rfl (Nat.le_of_ble_eq_true rfl) dX2_others_59 rfl hq19 b1 b2 (c_X2_houseOf G l x0 x1 h18 _ hw) (k_I (fun r20 h21 hw => ?_))
      refine r_icmp_eq (tgt := 67) C (by decide) dX2_others_62 (fun hc22 => ?_) (fun hc22 => ?_)
      · have hw := hw.1 hc22
        exact r_sub C [1, 2, 3, 4, 0] rfl (b_X2_others_67 C LA20 hLA20 _ _ _ _ _ _ _ _ b1 b2 hw)
      · have hw := hw.2 hc22
        refine r_iconst (v := (-1 : Int32)) C (by decide) dX2_others_65 ?_
        exact r_ireturn C dX2_others_66 b1 b2 ⟨_, rfl, hw⟩
theorem b_X2_others_20 {G : gT} {l : Launch} {V : Hp → Nat → Nat → Nat → List (Nat × Value) → List Value → Prop} {mc ms : Nat} {Q : Int32 → Hp → Prop} (C : Cx G l V cX2_others 6 RX2 6 118 mc ms (pI Q) none (some .int) [] false) : ∀ (k : Nat) (h : Hp) (c : Nat) (n : Nat) (x0 : Nat) (x1 : Int32) (x3 : Int32) (x4 : Option Nat), c ≤ mc → n ≤ ms → B_X2_others_20 mc ms Q k h c n x0 x1 x3 x4 → V h c n 20 [(0, .ref x0), (1, .int x1), (3, .int x3), (4, va_rf x4)] [] := by
  intro k
  induction k with
  | zero =>
    intro h c n x0 x1 x3 x4 b1 b2 hw
    exact hw.elim
  | succ k ih =>
    intro h c n x0 x1 x3 x4 b1 b2 hw
    exact s_X2_others_20 C _ (fun h c n x0 x1 x3 x4 b1 b2 hw => ih h c n x0 x1 x3 x4 b1 b2 hw) h c n x0 x1 x3 x4 b1 b2 hw
theorem sg_X2_others : ySg yX2_others 2 = true := by decide +kernel
theorem c_X2_others (G : gT) (l : Launch) (mc ms : Nat) (a0 : Nat) (i1 : Int32) (i2 : Int32) (h : Hp) (Q : Int32 → Hp → Prop) (hw : w_X2_others mc ms a0 i1 i2 h Q) : Ct G l yX2_others (ws_ yX2_others cX2_others 6 (some .int)) 6 118 mc ms [.ref a0, .int i1, .int i2] h (pI Q) := by
  refine Ct.of (own := RX2) false (by decide +kernel) rfl (show (_ : Nat) ≤ _ from Nat.le_of_ble_eq_true rfl) (fun z => by cases z) (fun V C => ?_)
  show V h 0 0 0 [(0, .ref a0), (1, .int i1), (2, .int i2)] []
  unfold w_X2_others at hw
  refine r_iconst (v := (0 : Int32)) C (by decide) dX2_others_0 (r_istore_n (L' := [(3, .int (0 : Int32)), (0, .ref a0), (1, .int i1), (2, .int i2)]) C rfl (by decide) rfl dX2_others_1 (r_aload_n C rfl 1 rfl dX2_others_2 ?_))
  refine r_gfR (k := 3) C kX2 (by decide) (Or.inl q308) (Or.inl rfl) dX2_others_3 hw (fun v25 hw => ?_)
  refine r_iload_n C rfl 3 rfl dX2_others_6 ?_
  obtain ⟨y26, rfl, hw_y26⟩ := hw
  have hw := hw_y26
  obtain ⟨hq27, hw⟩ := hw
  refine r_callF (ci := 8) (rest := []) (As := [.int i2]) C (x := ⟨"java/util/List", "get", "(I)Ljava/lang/Object;"⟩) (show ySg ⟨"java/util/List", "get", "(I)Ljava/lang/Object;"⟩ 1 = true by decide +kernel) rfl q450 q453 q455 q81 q457 (List.mem_of_getElem? (i := 6) rfl) rfl (Nat.le_of_ble_eq_true rfl) dX2_others_7 rfl hq27 (Nat.zero_le _) (Nat.zero_le _) (cj_J2_get G l y26 i2 h _ hw) (k_R (fun r28 h29 hw => ?_))
  obtain ⟨e31, hw⟩ := hw
  refine r_cast (x := r28) C (ci := 9) rfl q169 dX2_others_12 e31 ?_
  obtain ⟨y32, rfl, hw_y32⟩ := hw
  have hw := hw_y32
  obtain ⟨hq33, hw⟩ := hw
  obtain ⟨k36, k37, hp38, hp39, hw⟩ := hw
  refine r_callU (ci := 9) (owner := "java/util/AbstractSequentialList") (rest := []) (As := []) C (x := ⟨"java/util/LinkedList", "iterator", "()Ljava/util/Iterator;"⟩) (show ySg ⟨"java/util/AbstractSequentialList", "iterator", "()Ljava/util/Iterator;"⟩ 0 = true by decide +kernel) rfl q1554 q1555 q1557 q1079 q82 q1081 (by decide +kernel) rfl (Nat.le_of_ble_eq_true rfl) dX2_others_15 rfl hq33 hp38 hp39 (cj_J3_iterator G l k36 k37 y32 h29 _ hw) (k_R (fun r34 h35 hw => ?_))
  refine r_astoreO (x := r34) (L' := [(4, va_rf r34), (3, .int (0 : Int32)), (0, .ref a0), (1, .int i1), (2, .int i2)]) C (by decide) rfl dX2_others_18 ?_
  obtain ⟨k9, hw⟩ := hw
  exact r_sub C [2, 3, 1, 0] rfl (b_X2_others_20 C _ _ _ _ _ _ _ _ hp38 hp39 hw)
def w_X2_canShelve (mc ms : Nat) (a0 : Nat) (i1 : Int32) (i2 : Int32) (h : Hp) (Q : Bool → Hp → Prop) : Prop :=
  hasC h a0 1 ∧ (∃ k4 k5 : Nat, 0 + k4 ≤ mc ∧ 0 + k5 ≤ ms ∧ (w_X2_others k4 k5 a0 i1 i2 h (fun r2 h3 => w_X1_isIn r2.toInt64 (0 : Int64) (5 : Int64) h3 (fun r8 h9 => Q r8 h9))))
theorem sg_X2_canShelve : ySg yX2_canShelve 2 = true := by decide +kernel
theorem c_X2_canShelve (G : gT) (l : Launch) (mc ms : Nat) (a0 : Nat) (i1 : Int32) (i2 : Int32) (h : Hp) (Q : Bool → Hp → Prop) (hw : w_X2_canShelve mc ms a0 i1 i2 h Q) : Ct G l yX2_canShelve (ws_ yX2_canShelve cX2_canShelve 3 (some .boolean)) 7 143 mc ms [.ref a0, .int i1, .int i2] h (pZ Q) := by
  refine Ct.of (own := RX2) false (by decide +kernel) rfl (show (_ : Nat) ≤ _ from Nat.le_of_ble_eq_true rfl) (fun z => by cases z) (fun V C => ?_)
  show V h 0 0 0 [(0, .ref a0), (1, .int i1), (2, .int i2)] []
  unfold w_X2_canShelve at hw
  refine r_aload_n C rfl 0 rfl dX2_canShelve_0 (r_iload_n C rfl 1 rfl dX2_canShelve_1 (r_iload_n C rfl 2 rfl dX2_canShelve_2 ?_))
  obtain ⟨hq1, hw⟩ := hw
  obtain ⟨k4, k5, hp6, hp7, hw⟩ := hw
  refine r_callV (ci := 1) (rest := []) (As := [.int i1, .int i2]) C sg_X2_others rfl rfl q1876 q1878 qs36 q78 q1879 rfl (Nat.le_of_ble_eq_true rfl) dX2_canShelve_3 rfl hq1 hp6 hp7 (c_X2_others G l k4 k5 a0 i1 i2 h _ hw) (k_I (fun r2 h3 hw => ?_))
  refine r_i2l C dX2_canShelve_6 (r_lconst (v := (0 : Int64)) C (by decide) dX2_canShelve_7 (r_ldc2 (v := (5 : Int64)) C q1884 dX2_canShelve_8 ?_))
  refine r_callSN (rest := []) (As := [.long r2.toInt64, .long (0 : Int64), .long (5 : Int64)]) C sg_X1_isIn (List.mem_of_getElem? (i := 25) rfl) q400 q77 q401 rfl (Nat.le_of_ble_eq_true rfl) dX2_canShelve_11 rfl hp6 hp7 (c_X1_isIn G l r2.toInt64 (0 : Int64) (5 : Int64) h3 _ hw) (k_Z (fun r8 h9 hw => ?_))
  exact r_zreturn (x := r8) C dX2_canShelve_14 hp6 hp7 ⟨_, rfl, hw⟩
def w_X8_init (mc ms : Nat) (a0 : Nat) (a1 : Nat) (i2 : Int32) (h : Hp) (Q : Hp → Prop) : Prop :=
  pf h a0 7 2 (.ref a1) (fun h1 => gfR h1 a1 1 3 (fun v2 => nn v2 (fun y3 => hasC h1 y3 8 ∧ (wj_J2_get y3 i2 h1 (fun r5 h6 => (∀ z7 : Nat, r5 = some z7 → hasC h6 z7 9) ∧ (nn r5 (fun y9 => hasC h6 y9 9 ∧ (∃ k13 k14 : Nat, 0 + k13 ≤ mc ∧ 0 + k14 ≤ ms ∧ (wj_J3_iterator k13 k14 y9 h6 (fun r11 h12 => pf h12 a0 7 0 (va_rf r11) (fun h17 => Q h17)))))))))))
theorem sg_X8_init : ySg yX8_init 2 = true := by decide +kernel
theorem c_X8_init (G : gT) (l : Launch) (mc ms : Nat) (a0 : Nat) (a1 : Nat) (i2 : Int32) (h : Hp) (Q : Hp → Prop) (hw : w_X8_init mc ms a0 a1 i2 h Q) : Ct G l yX8_init (ws_ yX8_init cX8_init 3 (none)) 6 118 mc ms [.ref a0, .ref a1, .int i2] h (pV Q) := by
  refine Ct.of (own := RX8) true (by decide +kernel) rfl (show (_ : Nat) ≤ _ from Nat.le_of_ble_eq_true rfl) (fun _ => rfl) (fun V C => ?_)
  show V h 0 0 0 [(0, .ref a0), (1, .ref a1), (2, .int i2)] []
  unfold w_X8_init at hw
  refine r_aload_n C rfl 0 rfl dX8_init_0 (r_aload_n C rfl 1 rfl dX8_init_1 ?_)
  refine r_pf (k := 2) (v := .ref a1) C kX8 (by decide) (Or.inl q1906) (Or.inl rfl) (Or.inr ⟨rfl, rfl, q1906⟩) rfl rfl dX8_init_2 hw (fun h1 hw => ?_)
  refine r_aload_n C rfl 0 rfl dX8_init_5 ?_
  refine r_objInit C q1898 q128 q129 (by decide) (by decide) dX8_init_6 ?_
  refine r_aload_n C rfl 0 rfl dX8_init_9 (r_aload_n C rfl 1 rfl dX8_init_10 ?_)
  refine r_gfR (k := 3) C kX2 (by decide) (Or.inr ⟨_, (List.mem_of_getElem? (i := 6) rfl)⟩) (Or.inl rfl) dX8_init_11 hw (fun v2 hw => ?_)
  refine r_iload_n C rfl 2 rfl dX8_init_14 ?_
  obtain ⟨y3, rfl, hw_y3⟩ := hw
  have hw := hw_y3
  obtain ⟨hq4, hw⟩ := hw
  refine r_callF (ci := 8) (rest := [.ref a0]) (As := [.int i2]) C (x := ⟨"java/util/List", "get", "(I)Ljava/lang/Object;"⟩) (show ySg ⟨"java/util/List", "get", "(I)Ljava/lang/Object;"⟩ 1 = true by decide +kernel) rfl q1900 q453 q455 q81 q457 (List.mem_of_getElem? (i := 6) rfl) rfl (Nat.le_of_ble_eq_true rfl) dX8_init_15 rfl hq4 (Nat.zero_le _) (Nat.zero_le _) (cj_J2_get G l y3 i2 h1 _ hw) (k_R (fun r5 h6 hw => ?_))
  obtain ⟨e8, hw⟩ := hw
  refine r_cast (x := r5) C (ci := 9) rfl q1901 dX8_init_20 e8 ?_
  obtain ⟨y9, rfl, hw_y9⟩ := hw
  have hw := hw_y9
  obtain ⟨hq10, hw⟩ := hw
  obtain ⟨k13, k14, hp15, hp16, hw⟩ := hw
  refine r_callU (ci := 9) (owner := "java/util/AbstractSequentialList") (rest := [.ref a0]) (As := []) C (x := ⟨"java/util/LinkedList", "iterator", "()Ljava/util/Iterator;"⟩) (show ySg ⟨"java/util/AbstractSequentialList", "iterator", "()Ljava/util/Iterator;"⟩ 0 = true by decide +kernel) rfl q1902 q1555 q1557 q1079 q82 q1081 (by decide +kernel) rfl (Nat.le_of_ble_eq_true rfl) dX8_init_23 rfl hq10 hp15 hp16 (cj_J3_iterator G l k13 k14 y9 h6 _ hw) (k_R (fun r11 h12 hw => ?_))
  refine r_pf (k := 0) (v := va_rf r11) C kX8 (by decide) (Or.inl q1903) (Or.inl rfl) (Or.inr ⟨rfl, rfl, q1903⟩) (n_rfO _ _) (f_rfO _ _) dX8_init_26 hw (fun h17 hw => ?_)
  exact r_return C dX8_init_29 hp15 hp16 ⟨rfl, hw⟩
def w_X8_hasNext (a0 : Nat) (h : Hp) (Q : Bool → Hp → Prop) : Prop :=
  gfR h a0 7 0 (fun v1 => nn v1 (fun y2 => hasC h y2 14 ∧ (wj_J28_hasNext y2 h (fun r4 h5 => Q r4 h5))))
theorem sg_X8_hasNext : ySg yX8_hasNext 0 = true := by decide +kernel
theorem c_X8_hasNext (G : gT) (l : Launch) (a0 : Nat) (h : Hp) (Q : Bool → Hp → Prop) (hw : w_X8_hasNext a0 h Q) : Ct G l yX8_hasNext (ws_ yX8_hasNext cX8_hasNext 1 (some .boolean)) 3 57 0 0 [.ref a0] h (pZ Q) := by
  refine Ct.of (own := RX8) false (by decide +kernel) rfl (show (_ : Nat) ≤ _ from Nat.le_of_ble_eq_true rfl) (fun z => by cases z) (fun V C => ?_)
  show V h 0 0 0 [(0, .ref a0)] []
  unfold w_X8_hasNext at hw
  refine r_aload_n C rfl 0 rfl dX8_hasNext_0 ?_
  refine r_gfR (k := 0) C kX8 (by decide) (Or.inl q1903) (Or.inl rfl) dX8_hasNext_1 hw (fun v1 hw => ?_)
  obtain ⟨y2, rfl, hw_y2⟩ := hw
  have hw := hw_y2
  obtain ⟨hq3, hw⟩ := hw
  refine r_callF (ci := 14) (rest := []) (As := []) C (x := ⟨"java/util/Iterator", "hasNext", "()Z"⟩) (show ySg ⟨"java/util/Iterator", "hasNext", "()Z"⟩ 0 = true by decide +kernel) rfl q1171 q1192 q1194 q114 q1196 (List.mem_of_getElem? (i := 16) rfl) rfl (Nat.le_of_ble_eq_true rfl) dX8_hasNext_4 rfl hq3 (Nat.le_refl _) (Nat.le_refl _) (cj_J28_hasNext G l y2 h _ hw) (k_Z (fun r4 h5 hw => ?_))
  exact r_zreturn (x := r4) C dX8_hasNext_9 (Nat.le_refl _) (Nat.le_refl _) ⟨_, rfl, hw⟩
def w_X8_next_2 (a0 : Nat) (h : Hp) (Q : Option Nat → Hp → Prop) : Prop :=
  hasC h a0 7 ∧ (w_X8_hasNext a0 h (fun r2 h3 => (r2 = true → gfR h3 a0 7 0 (fun v5 => nn v5 (fun y6 => hasC h3 y6 14 ∧ (wj_J28_next y6 h3 (fun r8 h9 => (∀ z10 : Nat, r8 = some z10 → hasC h9 z10 12) ∧ (Q r8 h9)))))) ∧ (r2 = false → False)))
theorem sg_X8_next_2 : ySg yX8_next_2 0 = true := by decide +kernel
theorem c_X8_next_2 (G : gT) (l : Launch) (a0 : Nat) (h : Hp) (Q : Option Nat → Hp → Prop) (hw : w_X8_next_2 a0 h Q) : Ct G l yX8_next_2 (ws_ yX8_next_2 cX8_next_2 1 (some (.object "java/lang/Integer"))) 4 77 0 0 [.ref a0] h (pR Q) := by
  refine Ct.of (own := RX8) false (by decide +kernel) rfl (show (_ : Nat) ≤ _ from Nat.le_of_ble_eq_true rfl) (fun z => by cases z) (fun V C => ?_)
  show V h 0 0 0 [(0, .ref a0)] []
  unfold w_X8_next_2 at hw
  refine r_aload_n C rfl 0 rfl dX8_next_2_0 ?_
  obtain ⟨hq1, hw⟩ := hw
  refine r_callV (ci := 7) (rest := []) (As := []) C sg_X8_hasNext rfl rfl q1210 q1167 q2647 q120 q1169 rfl (Nat.le_of_ble_eq_true rfl) dX8_next_2_1 rfl hq1 (Nat.le_refl _) (Nat.le_refl _) (c_X8_hasNext G l a0 h _ hw) (k_Z (fun r2 h3 hw => ?_))
  refine r_if_ne_b (tgt := 15) C (by decide) dX8_next_2_4 (fun hc4 => ?_) (fun hc4 => ?_)
  · have hw := hw.1 hc4
    refine r_aload_n C rfl 0 rfl dX8_next_2_15 ?_
    refine r_gfR (k := 0) C kX8 (by decide) (Or.inl q1903) (Or.inl rfl) dX8_next_2_16 hw (fun v5 hw => ?_)
    obtain ⟨y6, rfl, hw_y6⟩ := hw
    have hw := hw_y6
    obtain ⟨hq7, hw⟩ := hw
    refine r_callF (ci := 14) (rest := []) (As := []) C (x := ⟨"java/util/Iterator", "next", "()Ljava/lang/Object;"⟩) (show ySg ⟨"java/util/Iterator", "next", "()Ljava/lang/Object;"⟩ 0 = true by decide +kernel) rfl q1233 q1311 q1313 q114 q1315 (List.mem_of_getElem? (i := 21) rfl) rfl (Nat.le_of_ble_eq_true rfl) dX8_next_2_19 rfl hq7 (Nat.le_refl _) (Nat.le_refl _) (cj_J28_next G l y6 h3 _ hw) (k_R (fun r8 h9 hw => ?_))
    obtain ⟨e11, hw⟩ := hw
    refine r_cast (x := r8) C (ci := 12) rfl q1321 dX8_next_2_24 e11 ?_
    exact r_areturn (x := r8) C (by first | exact Or.inl ⟨_, rfl⟩ | exact Or.inr ⟨_, rfl⟩) dX8_next_2_27 (Nat.le_refl _) (Nat.le_refl _) ⟨_, rfl, hw⟩
  · have hw := hw.2 hc4
    exact hw.elim
def w_X8_remove (a0 : Nat) (h : Hp) (Q : Hp → Prop) : Prop :=
  gfR h a0 7 0 (fun v1 => nn v1 (fun y2 => hasC h y2 14 ∧ (wj_J28_remove y2 h (fun h5 => gfI h5 a0 7 1 (fun v6 => pf h5 a0 7 1 (.int (v6 + (1 : Int32))) (fun h7 => Q h7))))))
theorem sg_X8_remove : ySg yX8_remove 0 = true := by decide +kernel
theorem c_X8_remove (G : gT) (l : Launch) (a0 : Nat) (h : Hp) (Q : Hp → Prop) (hw : w_X8_remove a0 h Q) : Ct G l yX8_remove (ws_ yX8_remove cX8_remove 1 (none)) 3 57 0 0 [.ref a0] h (pV Q) := by
  refine Ct.of (own := RX8) false (by decide +kernel) rfl (show (_ : Nat) ≤ _ from Nat.le_of_ble_eq_true rfl) (fun z => by cases z) (fun V C => ?_)
  show V h 0 0 0 [(0, .ref a0)] []
  unfold w_X8_remove at hw
  refine r_aload_n C rfl 0 rfl dX8_remove_0 ?_
  refine r_gfR (k := 0) C kX8 (by decide) (Or.inl q1903) (Or.inl rfl) dX8_remove_1 hw (fun v1 hw => ?_)
  obtain ⟨y2, rfl, hw_y2⟩ := hw
  have hw := hw_y2
  obtain ⟨hq3, hw⟩ := hw
  refine r_callF (ci := 14) (rest := []) (As := []) C (x := ⟨"java/util/Iterator", "remove", "()V"⟩) (show ySg ⟨"java/util/Iterator", "remove", "()V"⟩ 0 = true by decide +kernel) rfl q1920 q1979 q1981 q114 q1983 (List.mem_of_getElem? (i := 27) rfl) rfl (Nat.le_of_ble_eq_true rfl) dX8_remove_4 rfl hq3 (Nat.le_refl _) (Nat.le_refl _) (cj_J28_remove G l y2 h _ hw) (k_V (fun h5 hw => ?_))
  refine r_aload_n C rfl 0 rfl dX8_remove_9 (r_dup C rfl dX8_remove_10 ?_)
  refine r_gfI (k := 1) C kX8 (by decide) (Or.inl q1904) (Or.inl rfl) dX8_remove_11 hw (fun v6 hw => ?_)
  refine r_iconst (v := (1 : Int32)) C (by decide) dX8_remove_14 (r_iadd C dX8_remove_15 ?_)
  refine r_pf (k := 1) (v := .int (v6 + (1 : Int32))) C kX8 (by decide) (Or.inl q1904) (Or.inl rfl) (Or.inl rfl) rfl rfl dX8_remove_16 hw (fun h7 hw => ?_)
  exact r_return C dX8_remove_19 (Nat.le_refl _) (Nat.le_refl _) ⟨rfl, hw⟩
def S_X2_take_21 (mc ms : Nat) (Q : Int32 → Hp → Prop) (LA21 : Hp → Nat → Nat → Int32 → Int32 → Nat → Prop) (h : Hp) (c : Nat) (n : Nat) (x1 : Int32) (x2 : Int32) (x3 : Nat) : Prop :=
  gfI h x3 7 1 (fun v1 => (¬ v1 = 0 → Q x2 h) ∧ (v1 = 0 → hasC h x3 7 ∧ (w_X8_next_2 x3 h (fun r4 h5 => nn r4 (fun y6 => hasC h5 y6 12 ∧ (wj_J24_intValue y6 h5 (fun r8 h9 => (¬ r8 = x1 → LA21 h9 c n x1 x2 x3) ∧ (r8 = x1 → hasC h9 x3 7 ∧ (w_X8_remove x3 h9 (fun h13 => LA21 h13 c n x1 x2 x3))))))))))
def B_X2_take_21 (mc ms : Nat) (Q : Int32 → Hp → Prop) : Nat → Hp → Nat → Nat → Int32 → Int32 → Nat → Prop
  | 0, _, _, _, _, _, _ => False
  | k + 1, h, c, n, x1, x2, x3 => S_X2_take_21 mc ms Q (B_X2_take_21 mc ms Q k) h c n x1 x2 x3
def w_X2_take (mc ms : Nat) (a0 : Nat) (i1 : Int32) (h : Hp) (Q : Int32 → Hp → Prop) : Prop :=
  hasC h a0 1 ∧ (∃ k17 k18 : Nat, 0 + k17 ≤ mc ∧ 0 + k18 ≤ ms ∧ (w_X2_shelfOf k17 k18 a0 i1 h (fun r15 h16 => (r15 = (-1 : Int32) → Q r15 h16) ∧ (¬ r15 = (-1 : Int32) → (0 + k17) + 1 ≤ mc ∧ (0 + k18) + 3 ≤ ms ∧ (nwO h16 7 [.null, .int 0, .null] (fun q24 h25 => ∃ k28 k29 : Nat, ((0 + k17) + 1) + k28 ≤ mc ∧ ((0 + k18) + 3) + k29 ≤ ms ∧ (w_X8_init k28 k29 q24 a0 r15 h25 (fun h27 => ∃ k9 : Nat, B_X2_take_21 mc ms Q k9 h27 (((0 + k17) + 1) + k28) (((0 + k18) + 3) + k29) i1 r15 q24))))))))
theorem s_X2_take_21 {G : gT} {l : Launch} {V : Hp → Nat → Nat → Nat → List (Nat × Value) → List Value → Prop} {mc ms : Nat} {Q : Int32 → Hp → Prop} (C : Cx G l V cX2_take 4 RX2 7 140 mc ms (pI Q) none (some .int) [] false) (LA21 : Hp → Nat → Nat → Int32 → Int32 → Nat → Prop) (hLA21 : ∀ (h : Hp) (c : Nat) (n : Nat) (x1 : Int32) (x2 : Int32) (x3 : Nat), c ≤ mc → n ≤ ms → LA21 h c n x1 x2 x3 → V h c n 21 [(1, .int x1), (2, .int x2), (3, .ref x3)] []) (h : Hp) (c : Nat) (n : Nat) (x1 : Int32) (x2 : Int32) (x3 : Nat) (b1 : c ≤ mc) (b2 : n ≤ ms) (hw : S_X2_take_21 mc ms Q LA21 h c n x1 x2 x3) : V h c n 21 [(1, .int x1), (2, .int x2), (3, .ref x3)] [] := by
  unfold S_X2_take_21 at hw
  refine r_aload_n C rfl 2 rfl dX2_take_21 ?_
  refine r_gfI (k := 1) C kX8 (by decide) (Or.inr ⟨_, (List.mem_of_getElem? (i := 56) rfl)⟩) (Or.inl rfl) dX2_take_22 hw (fun v1 hw => ?_)
  refine r_if_ne (tgt := 46) C (by decide) dX2_take_25 (fun hc2 => ?_) (fun hc2 => ?_)
  · have hw := hw.1 hc2
    refine r_iload_n C rfl 1 rfl dX2_take_46 ?_
    exact r_ireturn C dX2_take_47 b1 b2 ⟨_, rfl, hw⟩
  · have hw := hw.2 hc2
    refine r_aload_n C rfl 2 rfl dX2_take_28 ?_
    obtain ⟨hq3, hw⟩ := hw
    refine r_callV (ci := 7) (rest := []) (As := []) C sg_X8_next_2 rfl rfl q1914 q1207 q1208 q120 q1209 rfl (Nat.le_of_ble_eq_true rfl) dX2_take_29 rfl hq3 b1 b2 (c_X8_next_2 G l x3 h _ hw) (k_R (fun r4 h5 hw => ?_))
    obtain ⟨y6, rfl, hw_y6⟩ := hw
    have hw := hw_y6
    obtain ⟨hq7, hw⟩ := hw
    refine r_callV (ci := 12) (rest := []) (As := []) C sg_J24_intValue rfl rfl q1559 q952 q953 q105 q954 rfl (Nat.le_of_ble_eq_true rfl) dX2_take_32 rfl hq7 b1 b2 (cj_J24_intValue G l y6 h5 _ hw) (k_I (fun r8 h9 hw => ?_))
    refine r_iload_n C rfl 0 rfl dX2_take_35 ?_
    refine r_icmp_ne (tgt := 21) C (by decide) dX2_take_36 (fun hc10 => ?_) (fun hc10 => ?_)
    · have hw := hw.1 hc10
      exact r_sub C [0, 1, 2] rfl (hLA21 _ _ _ _ _ _ b1 b2 hw)
    · have hw := hw.2 hc10
      refine r_aload_n C rfl 2 rfl dX2_take_39 ?_
      obtain ⟨hq11, hw⟩ := hw
      refine r_callV (ci := 7) (rest := []) (As := []) C sg_X8_remove rfl rfl q1915 q1916 q1917 q120 q1918 rfl (Nat.le_of_ble_eq_true rfl) dX2_take_40 rfl hq11 b1 b2 (c_X8_remove G l x3 h9 _ hw) (k_V (fun h13 hw => ?_))
      refine r_goto (tgt := 21) C (by decide) dX2_take_43 ?_
      exact r_sub C [0, 1, 2] rfl (hLA21 _ _ _ _ _ _ b1 b2 hw)
theorem b_X2_take_21 {G : gT} {l : Launch} {V : Hp → Nat → Nat → Nat → List (Nat × Value) → List Value → Prop} {mc ms : Nat} {Q : Int32 → Hp → Prop} (C : Cx G l V cX2_take 4 RX2 7 140 mc ms (pI Q) none (some .int) [] false) : ∀ (k : Nat) (h : Hp) (c : Nat) (n : Nat) (x1 : Int32) (x2 : Int32) (x3 : Nat), c ≤ mc → n ≤ ms → B_X2_take_21 mc ms Q k h c n x1 x2 x3 → V h c n 21 [(1, .int x1), (2, .int x2), (3, .ref x3)] [] := by
  intro k
  induction k with
  | zero =>
    intro h c n x1 x2 x3 b1 b2 hw
    exact hw.elim
  | succ k ih =>
    intro h c n x1 x2 x3 b1 b2 hw
    exact s_X2_take_21 C _ (fun h c n x1 x2 x3 b1 b2 hw => ih h c n x1 x2 x3 b1 b2 hw) h c n x1 x2 x3 b1 b2 hw
theorem sg_X2_take : ySg yX2_take 1 = true := by decide +kernel
theorem c_X2_take (G : gT) (l : Launch) (mc ms : Nat) (a0 : Nat) (i1 : Int32) (h : Hp) (Q : Int32 → Hp → Prop) (hw : w_X2_take mc ms a0 i1 h Q) : Ct G l yX2_take (ws_ yX2_take cX2_take 4 (some .int)) 7 140 mc ms [.ref a0, .int i1] h (pI Q) := by
  refine Ct.of (own := RX2) false (by decide +kernel) rfl (show (_ : Nat) ≤ _ from Nat.le_of_ble_eq_true rfl) (fun z => by cases z) (fun V C => ?_)
  show V h 0 0 0 [(0, .ref a0), (1, .int i1)] []
  unfold w_X2_take at hw
  refine r_aload_n C rfl 0 rfl dX2_take_0 (r_iload_n C rfl 1 rfl dX2_take_1 ?_)
  obtain ⟨hq14, hw⟩ := hw
  obtain ⟨k17, k18, hp19, hp20, hw⟩ := hw
  refine r_callV (ci := 1) (rest := []) (As := [.int i1]) C sg_X2_shelfOf rfl rfl q1871 q1637 q1638 q78 q1639 rfl (Nat.le_of_ble_eq_true rfl) dX2_take_2 rfl hq14 hp19 hp20 (c_X2_shelfOf G l k17 k18 a0 i1 h _ hw) (k_I (fun r15 h16 hw => ?_))
  refine r_istore_n (L' := [(2, .int r15), (0, .ref a0), (1, .int i1)]) C rfl (by decide) rfl dX2_take_5 (r_iload_n C rfl 0 rfl dX2_take_6 (r_iconst (v := (-1 : Int32)) C (by decide) dX2_take_7 ?_))
  refine r_icmp_eq (tgt := 46) C (by decide) dX2_take_8 (fun hc21 => ?_) (fun hc21 => ?_)
  · have hw := hw.1 hc21
    refine r_iload_n C rfl 0 rfl dX2_take_46 ?_
    exact r_ireturn C dX2_take_47 hp19 hp20 ⟨_, rfl, hw⟩
  · have hw := hw.2 hc21
    obtain ⟨hp22, hp23, hw⟩ := hw
    refine r_new C kX8 q1893 q1894 q120 df_7 dX2_take_11 hp22 hp23 hw (fun q24 h25 hw => ?_)
    refine r_dup C rfl dX2_take_14 (r_aload_n C rfl 1 rfl dX2_take_15 (r_iload_n C rfl 0 rfl dX2_take_16 ?_))
    obtain ⟨k28, k29, hp30, hp31, hw⟩ := hw
    refine r_callI (rest := [.ref q24]) (As := [.ref a0, .int r15]) C sg_X8_init rfl q1895 q1896 q120 q1897 rfl (Nat.le_of_ble_eq_true rfl) dX2_take_17 rfl hp30 hp31 (c_X8_init G l k28 k29 q24 a0 r15 h25 _ hw) (k_V (fun h27 hw => ?_))
    refine r_astore_n (L' := [(3, .ref q24), (2, .int r15), (0, .ref a0), (1, .int i1)]) C rfl (by decide) rfl dX2_take_20 ?_
    obtain ⟨k9, hw⟩ := hw
    exact r_sub C [3, 1, 0] rfl (b_X2_take_21 C _ _ _ _ _ _ _ hp30 hp31 hw)
def w_X2_shelve (mc ms : Nat) (a0 : Nat) (i1 : Int32) (i2 : Int32) (i3 : Int32) (h : Hp) (Q : Int32 → Hp → Prop) : Prop :=
  hasC h a0 1 ∧ (∃ k4 k5 : Nat, 0 + k4 ≤ mc ∧ 0 + k5 ≤ ms ∧ (w_X2_take k4 k5 a0 i1 h (fun r2 h3 => gfR h3 a0 1 3 (fun v8 => nn v8 (fun y9 => hasC h3 y9 8 ∧ (wj_J2_get y9 i2 h3 (fun r11 h12 => (∀ z13 : Nat, r11 = some z13 → hasC h12 z13 9) ∧ (∃ k17 k18 : Nat, (0 + k4) + k17 ≤ mc ∧ (0 + k5) + k18 ≤ ms ∧ (wj_J24_valueOf k17 k18 i1 h12 (fun r15 h16 => nn r11 (fun y21 => nn r15 (fun y22 => hasC h16 y21 9 ∧ (∃ k26 k27 : Nat, ((0 + k4) + k17) + k26 ≤ mc ∧ ((0 + k5) + k18) + k27 ≤ ms ∧ (wj_J4_add_2 k26 k27 y21 i3 y22 h16 (fun h25 => gfR h25 a0 1 3 (fun v30 => nn v30 (fun y31 => hasC h25 y31 8 ∧ (wj_J2_get y31 i2 h25 (fun r33 h34 => (∀ z35 : Nat, r33 = some z35 → hasC h34 z35 9) ∧ (nn r33 (fun y37 => hasC h34 y37 9 ∧ (wj_J4_size y37 h34 (fun r39 h40 => Q r39 h40)))))))))))))))))))))))
theorem sg_X2_shelve : ySg yX2_shelve 3 = true := by decide +kernel
theorem c_X2_shelve (G : gT) (l : Launch) (mc ms : Nat) (a0 : Nat) (i1 : Int32) (i2 : Int32) (i3 : Int32) (h : Hp) (Q : Int32 → Hp → Prop) (hw : w_X2_shelve mc ms a0 i1 i2 i3 h Q) : Ct G l yX2_shelve (ws_ yX2_shelve cX2_shelve 4 (some .int)) 8 163 mc ms [.ref a0, .int i1, .int i2, .int i3] h (pI Q) := by
  refine Ct.of (own := RX2) false (by decide +kernel) rfl (show (_ : Nat) ≤ _ from Nat.le_of_ble_eq_true rfl) (fun z => by cases z) (fun V C => ?_)
  show V h 0 0 0 [(0, .ref a0), (1, .int i1), (2, .int i2), (3, .int i3)] []
  unfold w_X2_shelve at hw
  refine r_aload_n C rfl 0 rfl dX2_shelve_0 (r_iload_n C rfl 1 rfl dX2_shelve_1 ?_)
  obtain ⟨hq1, hw⟩ := hw
  obtain ⟨k4, k5, hp6, hp7, hw⟩ := hw
  refine r_callV (ci := 1) (rest := []) (As := [.int i1]) C sg_X2_take rfl rfl q1889 q1890 q1891 q78 q1892 rfl (Nat.le_of_ble_eq_true rfl) dX2_shelve_2 rfl hq1 hp6 hp7 (c_X2_take G l k4 k5 a0 i1 h _ hw) (k_I (fun r2 h3 hw => ?_))
  refine r_pop C rfl dX2_shelve_5 (r_aload_n C rfl 0 rfl dX2_shelve_6 ?_)
  refine r_gfR (k := 3) C kX2 (by decide) (Or.inl q308) (Or.inl rfl) dX2_shelve_7 hw (fun v8 hw => ?_)
  refine r_iload_n C rfl 2 rfl dX2_shelve_10 ?_
  obtain ⟨y9, rfl, hw_y9⟩ := hw
  have hw := hw_y9
  obtain ⟨hq10, hw⟩ := hw
  refine r_callF (ci := 8) (rest := []) (As := [.int i2]) C (x := ⟨"java/util/List", "get", "(I)Ljava/lang/Object;"⟩) (show ySg ⟨"java/util/List", "get", "(I)Ljava/lang/Object;"⟩ 1 = true by decide +kernel) rfl q450 q453 q455 q81 q457 (List.mem_of_getElem? (i := 6) rfl) rfl (Nat.le_of_ble_eq_true rfl) dX2_shelve_11 rfl hq10 hp6 hp7 (cj_J2_get G l y9 i2 h3 _ hw) (k_R (fun r11 h12 hw => ?_))
  obtain ⟨e14, hw⟩ := hw
  refine r_cast (x := r11) C (ci := 9) rfl q169 dX2_shelve_16 e14 ?_
  refine r_iload_n C rfl 3 rfl dX2_shelve_19 (r_iload_n C rfl 1 rfl dX2_shelve_20 ?_)
  obtain ⟨k17, k18, hp19, hp20, hw⟩ := hw
  refine r_callS (rest := [.int i3, va_rf r11]) (As := [.int i1]) C sg_J24_valueOf q978 q896 q105 q897 rfl (by rcases r11 with _ | _ <;> exact Nat.le_of_ble_eq_true rfl) dX2_shelve_21 rfl hp19 hp20 (cj_J24_valueOf G l k17 k18 i1 h12 _ hw) (k_R (fun r15 h16 hw => ?_))
  obtain ⟨y21, rfl, hw_y21⟩ := hw
  have hw := hw_y21
  obtain ⟨y22, rfl, hw_y22⟩ := hw
  have hw := hw_y22
  obtain ⟨hq23, hw⟩ := hw
  obtain ⟨k26, k27, hp28, hp29, hw⟩ := hw
  refine r_callV (ci := 9) (rest := []) (As := [.int i3, .ref y22]) C sg_J4_add_2 rfl rfl q1987 q1988 q1989 q83 q1990 rfl (Nat.le_of_ble_eq_true rfl) dX2_shelve_24 rfl hq23 hp28 hp29 (cj_J4_add_2 G l k26 k27 y21 i3 y22 h16 _ hw) (k_V (fun h25 hw => ?_))
  refine r_aload_n C rfl 0 rfl dX2_shelve_27 ?_
  refine r_gfR (k := 3) C kX2 (by decide) (Or.inl q308) (Or.inl rfl) dX2_shelve_28 hw (fun v30 hw => ?_)
  refine r_iload_n C rfl 2 rfl dX2_shelve_31 ?_
  obtain ⟨y31, rfl, hw_y31⟩ := hw
  have hw := hw_y31
  obtain ⟨hq32, hw⟩ := hw
  refine r_callF (ci := 8) (rest := []) (As := [.int i2]) C (x := ⟨"java/util/List", "get", "(I)Ljava/lang/Object;"⟩) (show ySg ⟨"java/util/List", "get", "(I)Ljava/lang/Object;"⟩ 1 = true by decide +kernel) rfl q450 q453 q455 q81 q457 (List.mem_of_getElem? (i := 6) rfl) rfl (Nat.le_of_ble_eq_true rfl) dX2_shelve_32 rfl hq32 hp28 hp29 (cj_J2_get G l y31 i2 h25 _ hw) (k_R (fun r33 h34 hw => ?_))
  obtain ⟨e36, hw⟩ := hw
  refine r_cast (x := r33) C (ci := 9) rfl q169 dX2_shelve_37 e36 ?_
  obtain ⟨y37, rfl, hw_y37⟩ := hw
  have hw := hw_y37
  obtain ⟨hq38, hw⟩ := hw
  refine r_callV (ci := 9) (rest := []) (As := []) C sg_J4_size rfl rfl q1545 q421 q2649 q83 q423 rfl (Nat.le_of_ble_eq_true rfl) dX2_shelve_40 rfl hq38 hp28 hp29 (cj_J4_size G l y37 h34 _ hw) (k_I (fun r39 h40 hw => ?_))
  exact r_ireturn C dX2_shelve_43 hp28 hp29 ⟨_, rfl, hw⟩
def B_X2_sort_128 (mc ms : Nat) (Q : Int32 → Hp → Prop) (LA37 : Hp → Nat → Nat → Nat → Int32 → (Option Nat) → (Option Nat) → Nat → Int32 → (Option Nat) → Prop) (h : Hp) (c : Nat) (n : Nat) (x0 : Nat) (x1 : Int32) (x2 : Option Nat) (x3 : Option Nat) (x4 : Nat) (x5 : Int32) (x6 : Option Nat) (x7 : Int32) (x8 : Int32) : Prop :=
  ∃ k54 k55 : Nat, c + k54 ≤ mc ∧ n + k55 ≤ ms ∧ (wj_J24_valueOf k54 k55 x7 h (fun r52 h53 => nn r52 (fun y58 => hasC h53 x4 9 ∧ (∃ k62 k63 : Nat, (c + k54) + k62 ≤ mc ∧ (n + k55) + k63 ≤ ms ∧ (wj_J4_add_2 k62 k63 x4 x8 y58 h53 (fun h61 => LA37 h61 ((c + k54) + k62) ((n + k55) + k63) x0 x1 x2 x3 x4 x5 x6))))))
def B_X2_sort_125 (mc ms : Nat) (Q : Int32 → Hp → Prop) (LA37 : Hp → Nat → Nat → Nat → Int32 → (Option Nat) → (Option Nat) → Nat → Int32 → (Option Nat) → Prop) (h : Hp) (c : Nat) (n : Nat) (x0 : Nat) (x1 : Int32) (x2 : Option Nat) (x3 : Option Nat) (x4 : Nat) (x5 : Int32) (x6 : Option Nat) (x7 : Int32) (x8 : Int32) : Prop :=
  B_X2_sort_128 mc ms Q LA37 h c n x0 x1 x2 x3 x4 (x5 + (1 : Int32)) x6 x7 x8
def S_X2_sort_80 (mc ms : Nat) (Q : Int32 → Hp → Prop) (LA37 : Hp → Nat → Nat → Nat → Int32 → (Option Nat) → (Option Nat) → Nat → Int32 → (Option Nat) → Prop) (LA80 : Hp → Nat → Nat → Nat → Int32 → (Option Nat) → (Option Nat) → Nat → Int32 → (Option Nat) → Int32 → Int32 → Prop) (h : Hp) (c : Nat) (n : Nat) (x0 : Nat) (x1 : Int32) (x2 : Option Nat) (x3 : Option Nat) (x4 : Nat) (x5 : Int32) (x6 : Option Nat) (x7 : Int32) (x8 : Int32) : Prop :=
  (x8 ≤ 0 → B_X2_sort_125 mc ms Q LA37 h c n x0 x1 x2 x3 x4 x5 x6 x7 x8) ∧ (¬ x8 ≤ 0 → hasC h x4 9 ∧ (wj_J4_get x4 (x8 - (1 : Int32)) h (fun r23 h24 => (∀ z25 : Nat, r23 = some z25 → hasC h24 z25 12) ∧ (nn r23 (fun y27 => hasC h24 y27 12 ∧ (wj_J24_intValue y27 h24 (fun r29 h30 => hasC h30 x0 1 ∧ (∃ k34 k35 : Nat, c + k34 ≤ mc ∧ n + k35 ≤ ms ∧ (w_X2_possible k34 k35 x0 r29 h30 (fun r32 h33 => nn r32 (fun y38 => w_X1_first y38 h33 (fun r39 h40 => hasC h40 x0 1 ∧ (∃ k44 k45 : Nat, (c + k34) + k44 ≤ mc ∧ (n + k35) + k45 ≤ ms ∧ (w_X2_possible k44 k45 x0 x7 h40 (fun r42 h43 => nn r42 (fun y48 => w_X1_first y48 h43 (fun r49 h50 => (r39 ≤ r49 → B_X2_sort_125 mc ms Q LA37 h50 ((c + k34) + k44) ((n + k35) + k45) x0 x1 x2 x3 x4 x5 x6 x7 x8) ∧ (¬ r39 ≤ r49 → LA80 h50 ((c + k34) + k44) ((n + k35) + k45) x0 x1 x2 x3 x4 x5 x6 x7 (x8 + (-1 : Int32))))))))))))))))))))
def B_X2_sort_80 (mc ms : Nat) (Q : Int32 → Hp → Prop) (LA37 : Hp → Nat → Nat → Nat → Int32 → (Option Nat) → (Option Nat) → Nat → Int32 → (Option Nat) → Prop) : Nat → Hp → Nat → Nat → Nat → Int32 → (Option Nat) → (Option Nat) → Nat → Int32 → (Option Nat) → Int32 → Int32 → Prop
  | 0, _, _, _, _, _, _, _, _, _, _, _, _ => False
  | k + 1, h, c, n, x0, x1, x2, x3, x4, x5, x6, x7, x8 => S_X2_sort_80 mc ms Q LA37 (B_X2_sort_80 mc ms Q LA37 k) h c n x0 x1 x2 x3 x4 x5 x6 x7 x8
def S_X2_sort_149 (mc ms : Nat) (Q : Int32 → Hp → Prop) (LA149 : Hp → Nat → Nat → Nat → Int32 → (Option Nat) → Nat → Int32 → Int32 → Prop) (h : Hp) (c : Nat) (n : Nat) (x0 : Nat) (x1 : Int32) (x3 : Option Nat) (x4 : Nat) (x6 : Int32) (x7 : Int32) : Prop :=
  hasC h x4 9 ∧ (wj_J4_size x4 h (fun r67 h68 => (r67 ≤ x7 → gfR h68 x0 1 3 (fun v70 => nn v70 (fun y71 => hasC h68 y71 8 ∧ (wj_J2_set y71 x1 x4 h68 (fun r73 h74 => Q x6 h74))))) ∧ (¬ r67 ≤ x7 → hasC h68 x4 9 ∧ (wj_J4_get x4 x7 h68 (fun r76 h77 => (∀ z78 : Nat, r76 = some z78 → hasC h77 z78 12) ∧ (nn r76 (fun y80 => hasC h77 y80 12 ∧ (wj_J24_intValue y80 h77 (fun r82 h83 => nn x3 (fun y84 => hasC h83 y84 9 ∧ (wj_J4_get y84 x7 h83 (fun r86 h87 => (∀ z88 : Nat, r86 = some z88 → hasC h87 z88 12) ∧ (nn r86 (fun y90 => hasC h87 y90 12 ∧ (wj_J24_intValue y90 h87 (fun r92 h93 => LA149 h93 c n x0 x1 (some y84) x4 (x6 + (bI (if ¬ r82 = r92 then true else false))) (x7 + (1 : Int32))))))))))))))))))
def B_X2_sort_149 (mc ms : Nat) (Q : Int32 → Hp → Prop) : Nat → Hp → Nat → Nat → Nat → Int32 → (Option Nat) → Nat → Int32 → Int32 → Prop
  | 0, _, _, _, _, _, _, _, _, _ => False
  | k + 1, h, c, n, x0, x1, x3, x4, x6, x7 => S_X2_sort_149 mc ms Q (B_X2_sort_149 mc ms Q k) h c n x0 x1 x3 x4 x6 x7
def S_X2_sort_37 (mc ms : Nat) (Q : Int32 → Hp → Prop) (LA37 : Hp → Nat → Nat → Nat → Int32 → (Option Nat) → (Option Nat) → Nat → Int32 → (Option Nat) → Prop) (h : Hp) (c : Nat) (n : Nat) (x0 : Nat) (x1 : Int32) (x2 : Option Nat) (x3 : Option Nat) (x4 : Nat) (x5 : Int32) (x6 : Option Nat) : Prop :=
  nn x6 (fun y1 => hasC h y1 14 ∧ (wj_J28_hasNext y1 h (fun r3 h4 => (r3 = false → ∃ k9 : Nat, B_X2_sort_149 mc ms Q k9 h4 c n x0 x1 x3 x4 (0 : Int32) (0 : Int32)) ∧ (r3 = true → hasC h4 y1 14 ∧ (wj_J28_next y1 h4 (fun r7 h8 => (∀ z9 : Nat, r7 = some z9 → hasC h8 z9 12) ∧ (nn r7 (fun y11 => hasC h8 y11 12 ∧ (wj_J24_intValue y11 h8 (fun r13 h14 => hasC h14 x4 9 ∧ (wj_J4_size x4 h14 (fun r16 h17 => nn x2 (fun y18 => rdI h17 y18 r13 (fun v19 => (¬ v19 = 0 → B_X2_sort_128 mc ms Q LA37 h17 c n x0 x1 (some y18) x3 x4 x5 (some y1) r13 r16) ∧ (v19 = 0 → ∃ k9 : Nat, B_X2_sort_80 mc ms Q LA37 k9 h17 c n x0 x1 (some y18) x3 x4 x5 (some y1) r13 x5)))))))))))))))
def B_X2_sort_37 (mc ms : Nat) (Q : Int32 → Hp → Prop) : Nat → Hp → Nat → Nat → Nat → Int32 → (Option Nat) → (Option Nat) → Nat → Int32 → (Option Nat) → Prop
  | 0, _, _, _, _, _, _, _, _, _, _ => False
  | k + 1, h, c, n, x0, x1, x2, x3, x4, x5, x6 => S_X2_sort_37 mc ms Q (B_X2_sort_37 mc ms Q k) h c n x0 x1 x2 x3 x4 x5 x6
def w_X2_sort (mc ms : Nat) (a0 : Nat) (i1 : Int32) (h : Hp) (Q : Int32 → Hp → Prop) : Prop :=
  hasC h a0 1 ∧ (∃ k99 k100 : Nat, 0 + k99 ≤ mc ∧ 0 + k100 ≤ ms ∧ (w_X2_fakes k99 k100 a0 h (fun r97 h98 => gfR h98 a0 1 3 (fun v103 => nn v103 (fun y104 => hasC h98 y104 8 ∧ (wj_J2_get y104 i1 h98 (fun r106 h107 => (∀ z108 : Nat, r106 = some z108 → hasC h107 z108 9) ∧ ((0 + k99) + 1 ≤ mc ∧ (0 + k100) + 4 ≤ ms ∧ (nwO h107 9 [.int 0, .int 0, .null, .null] (fun q112 h113 => wj_J4_init q112 h113 (fun h115 => nn r106 (fun y116 => hasC h115 y116 9 ∧ (∃ k120 k121 : Nat, ((0 + k99) + 1) + k120 ≤ mc ∧ ((0 + k100) + 4) + k121 ≤ ms ∧ (wj_J3_iterator k120 k121 y116 h115 (fun r118 h119 => ∃ k9 : Nat, B_X2_sort_37 mc ms Q k9 h119 (((0 + k99) + 1) + k120) (((0 + k100) + 4) + k121) a0 i1 r97 (some y116) q112 (0 : Int32) r118)))))))))))))))
theorem b_X2_sort_128 {G : gT} {l : Launch} {V : Hp → Nat → Nat → Nat → List (Nat × Value) → List Value → Prop} {mc ms : Nat} {Q : Int32 → Hp → Prop} (C : Cx G l V cX2_sort 9 RX2 12 262 mc ms (pI Q) none (some .int) [] false) (LA37 : Hp → Nat → Nat → Nat → Int32 → (Option Nat) → (Option Nat) → Nat → Int32 → (Option Nat) → Prop) (hLA37 : ∀ (h : Hp) (c : Nat) (n : Nat) (x0 : Nat) (x1 : Int32) (x2 : Option Nat) (x3 : Option Nat) (x4 : Nat) (x5 : Int32) (x6 : Option Nat), c ≤ mc → n ≤ ms → LA37 h c n x0 x1 x2 x3 x4 x5 x6 → V h c n 37 [(0, .ref x0), (1, .int x1), (2, va_rf x2), (3, va_rf x3), (4, .ref x4), (5, .int x5), (6, va_rf x6)] []) (h : Hp) (c : Nat) (n : Nat) (x0 : Nat) (x1 : Int32) (x2 : Option Nat) (x3 : Option Nat) (x4 : Nat) (x5 : Int32) (x6 : Option Nat) (x7 : Int32) (x8 : Int32) (b1 : c ≤ mc) (b2 : n ≤ ms) (hw : B_X2_sort_128 mc ms Q LA37 h c n x0 x1 x2 x3 x4 x5 x6 x7 x8) : V h c n 128 [(0, .ref x0), (1, .int x1), (2, va_rf x2), (3, va_rf x3), (4, .ref x4), (5, .int x5), (6, va_rf x6), (7, .int x7), (8, .int x8)] [] := by
  unfold B_X2_sort_128 at hw
  refine r_aload C 4 rfl dX2_sort_128 (r_iload C 8 rfl dX2_sort_130 (r_iload C 7 rfl dX2_sort_132 ?_))
  obtain ⟨k54, k55, hp56, hp57, hw⟩ := hw
  refine r_callS (rest := [.int x8, .ref x4]) (As := [.int x7]) C sg_J24_valueOf q978 q896 q105 q897 rfl (Nat.le_of_ble_eq_true rfl) dX2_sort_134 rfl hp56 hp57 (cj_J24_valueOf G l k54 k55 x7 h _ hw) (k_R (fun r52 h53 hw => ?_))
  obtain ⟨y58, rfl, hw_y58⟩ := hw
  have hw := hw_y58
  obtain ⟨hq59, hw⟩ := hw
  obtain ⟨k62, k63, hp64, hp65, hw⟩ := hw
  refine r_callV (ci := 9) (rest := []) (As := [.int x8, .ref y58]) C sg_J4_add_2 rfl rfl q1987 q1988 q1989 q83 q1990 rfl (Nat.le_of_ble_eq_true rfl) dX2_sort_137 rfl hq59 hp64 hp65 (cj_J4_add_2 G l k62 k63 x4 x8 y58 h53 _ hw) (k_V (fun h61 hw => ?_))
  refine r_goto (tgt := 37) C (by decide) dX2_sort_140 ?_
  exact r_sub C [0, 1, 2, 3, 4, 5, 6] rfl (hLA37 _ _ _ _ _ _ _ _ _ _ hp64 hp65 hw)
theorem b_X2_sort_125 {G : gT} {l : Launch} {V : Hp → Nat → Nat → Nat → List (Nat × Value) → List Value → Prop} {mc ms : Nat} {Q : Int32 → Hp → Prop} (C : Cx G l V cX2_sort 9 RX2 12 262 mc ms (pI Q) none (some .int) [] false) (LA37 : Hp → Nat → Nat → Nat → Int32 → (Option Nat) → (Option Nat) → Nat → Int32 → (Option Nat) → Prop) (hLA37 : ∀ (h : Hp) (c : Nat) (n : Nat) (x0 : Nat) (x1 : Int32) (x2 : Option Nat) (x3 : Option Nat) (x4 : Nat) (x5 : Int32) (x6 : Option Nat), c ≤ mc → n ≤ ms → LA37 h c n x0 x1 x2 x3 x4 x5 x6 → V h c n 37 [(0, .ref x0), (1, .int x1), (2, va_rf x2), (3, va_rf x3), (4, .ref x4), (5, .int x5), (6, va_rf x6)] []) (h : Hp) (c : Nat) (n : Nat) (x0 : Nat) (x1 : Int32) (x2 : Option Nat) (x3 : Option Nat) (x4 : Nat) (x5 : Int32) (x6 : Option Nat) (x7 : Int32) (x8 : Int32) (b1 : c ≤ mc) (b2 : n ≤ ms) (hw : B_X2_sort_125 mc ms Q LA37 h c n x0 x1 x2 x3 x4 x5 x6 x7 x8) : V h c n 125 [(0, .ref x0), (1, .int x1), (2, va_rf x2), (3, va_rf x3), (4, .ref x4), (5, .int x5), (6, va_rf x6), (7, .int x7), (8, .int x8)] [] := by
  unfold B_X2_sort_125 at hw
  refine r_iinc (v := x5 + (1 : Int32)) (L' := [(5, .int (x5 + (1 : Int32))), (0, .ref x0), (1, .int x1), (2, va_rf x2), (3, va_rf x3), (4, .ref x4), (6, va_rf x6), (7, .int x7), (8, .int x8)]) C (u := 5) rfl (by rfl) (by decide) rfl dX2_sort_125 ?_
  exact r_sub C [1, 2, 3, 4, 5, 0, 6, 7, 8] rfl (b_X2_sort_128 C LA37 hLA37 _ _ _ _ _ _ _ _ _ _ _ _ b1 b2 hw)
theorem s_X2_sort_80 {G : gT} {l : Launch} {V : Hp → Nat → Nat → Nat → List (Nat × Value) → List Value → Prop} {mc ms : Nat} {Q : Int32 → Hp → Prop} (C : Cx G l V cX2_sort 9 RX2 12 262 mc ms (pI Q) none (some .int) [] false) (LA37 : Hp → Nat → Nat → Nat → Int32 → (Option Nat) → (Option Nat) → Nat → Int32 → (Option Nat) → Prop) (hLA37 : ∀ (h : Hp) (c : Nat) (n : Nat) (x0 : Nat) (x1 : Int32) (x2 : Option Nat) (x3 : Option Nat) (x4 : Nat) (x5 : Int32) (x6 : Option Nat), c ≤ mc → n ≤ ms → LA37 h c n x0 x1 x2 x3 x4 x5 x6 → V h c n 37 [(0, .ref x0), (1, .int x1), (2, va_rf x2), (3, va_rf x3), (4, .ref x4), (5, .int x5), (6, va_rf x6)] []) (LA80 : Hp → Nat → Nat → Nat → Int32 → (Option Nat) → (Option Nat) → Nat → Int32 → (Option Nat) → Int32 → Int32 → Prop) (hLA80 : ∀ (h : Hp) (c : Nat) (n : Nat) (x0 : Nat) (x1 : Int32) (x2 : Option Nat) (x3 : Option Nat) (x4 : Nat) (x5 : Int32) (x6 : Option Nat) (x7 : Int32) (x8 : Int32), c ≤ mc → n ≤ ms → LA80 h c n x0 x1 x2 x3 x4 x5 x6 x7 x8 → V h c n 80 [(0, .ref x0), (1, .int x1), (2, va_rf x2), (3, va_rf x3), (4, .ref x4), (5, .int x5), (6, va_rf x6), (7, .int x7), (8, .int x8)] []) (h : Hp) (c : Nat) (n : Nat) (x0 : Nat) (x1 : Int32) (x2 : Option Nat) (x3 : Option Nat) (x4 : Nat) (x5 : Int32) (x6 : Option Nat) (x7 : Int32) (x8 : Int32) (b1 : c ≤ mc) (b2 : n ≤ ms) (hw : S_X2_sort_80 mc ms Q LA37 LA80 h c n x0 x1 x2 x3 x4 x5 x6 x7 x8) : V h c n 80 [(0, .ref x0), (1, .int x1), (2, va_rf x2), (3, va_rf x3), (4, .ref x4), (5, .int x5), (6, va_rf x6), (7, .int x7), (8, .int x8)] [] := by
  unfold S_X2_sort_80 at hw
  refine r_iload C 8 rfl dX2_sort_80 ?_
  refine r_if_le (tgt := 125) C (by decide) dX2_sort_82 (fun hc21 => ?_) (fun hc21 => ?_)
  · have hw := hw.1 hc21
    exact r_sub C [0, 1, 2, 3, 4, 5, 6, 7, 8] rfl (b_X2_sort_125 C LA37 hLA37 _ _ _ _ _ _ _ _ _ _ _ _ b1 b2 hw)
  · have hw := hw.2 hc21
    refine r_aload_n C rfl 0 rfl dX2_sort_85 (r_aload C 4 rfl dX2_sort_86 (r_iload C 8 rfl dX2_sort_88 (r_iconst (v := (1 : Int32)) C (by decide) dX2_sort_90 (r_isub C dX2_sort_91 ?_))))
    obtain ⟨hq22, hw⟩ := hw
    refine r_callV (ci := 9) (rest := [.ref x0]) (As := [.int (x8 - (1 : Int32))]) C sg_J4_get rfl rfl q2014 q470 q2651 q83 q472 rfl (Nat.le_of_ble_eq_true rfl) dX2_sort_92 rfl hq22 b1 b2 (cj_J4_get G l x4 (x8 - (1 : Int32)) h _ hw) (k_R (fun r23 h24 hw => ?_))
    obtain ⟨e26, hw⟩ := hw
    refine r_cast (x := r23) C (ci := 12) rfl q1558 dX2_sort_95 e26 ?_
    obtain ⟨y27, rfl, hw_y27⟩ := hw
    have hw := hw_y27
    obtain ⟨hq28, hw⟩ := hw
    refine r_callV (ci := 12) (rest := [.ref x0]) (As := []) C sg_J24_intValue rfl rfl q1559 q952 q953 q105 q954 rfl (Nat.le_of_ble_eq_true rfl) dX2_sort_98 rfl hq28 b1 b2 (cj_J24_intValue G l y27 h24 _ hw) (k_I (fun r29 h30 hw => ?_))
    obtain ⟨hq31, hw⟩ := hw
    obtain ⟨k34, k35, hp36, hp37, hw⟩ := hw
    refine r_callV (ci := 1) (rest := []) (As := [.int r29]) C sg_X2_possible rfl rfl q1424 q1425 q1426 q78 q1427 rfl (Nat.le_of_ble_eq_true rfl) dX2_sort_101 rfl hq31 hp36 hp37 (c_X2_possible G l k34 k35 x0 r29 h30 _ hw) (k_R (fun r32 h33 hw => ?_))
    obtain ⟨y38, rfl, hw_y38⟩ := hw
    have hw := hw_y38
    refine r_callSN (rest := []) (As := [.ref y38]) C sg_X1_first (List.mem_of_getElem? (i := 53) rfl) q1561 q77 q1562 rfl (Nat.le_of_ble_eq_true rfl) dX2_sort_104 rfl hp36 hp37 (c_X1_first G l y38 h33 _ hw) (k_I (fun r39 h40 hw => ?_))
    refine r_aload_n C rfl 0 rfl dX2_sort_107 (r_iload C 7 rfl dX2_sort_108 ?_)
    obtain ⟨hq41, hw⟩ := hw
    obtain ⟨k44, k45, hp46, hp47, hw⟩ := hw
    refine r_callV (ci := 1) (rest := [.int r39]) (As := [.int x7]) C sg_X2_possible rfl rfl q1424 q1425 q1426 q78 q1427 rfl (Nat.le_of_ble_eq_true rfl) dX2_sort_110 rfl hq41 hp46 hp47 (c_X2_possible G l k44 k45 x0 x7 h40 _ hw) (k_R (fun r42 h43 hw => ?_))
    obtain ⟨y48, rfl, hw_y48⟩ := hw
    have hw := hw_y48
    refine r_callSN (rest := [.int r39]) (As := [.ref y48]) C sg_X1_first (List.mem_of_getElem? (i := 53) rfl) q1561 q77 q1562 rfl (Nat.le_of_ble_eq_true rfl) dX2_sort_113 rfl hp46 hp47 (c_X1_first G l y48 h43 _ hw) (k_I (fun r49 h50 hw => ?_))
    refine r_icmp_le (tgt := 125) C (by decide) dX2_sort_116 (fun hc51 => ?_) (fun hc51 => ?_)
    · have hw := hw.1 hc51
      exact r_sub C [0, 1, 2, 3, 4, 5, 6, 7, 8] rfl (b_X2_sort_125 C LA37 hLA37 _ _ _ _ _ _ _ _ _ _ _ _ hp46 hp47 hw)
    · have hw := hw.2 hc51
      refine r_iinc (v := x8 + (-1 : Int32)) (L' := [(8, .int (x8 + (-1 : Int32))), (0, .ref x0), (1, .int x1), (2, va_rf x2), (3, va_rf x3), (4, .ref x4), (5, .int x5), (6, va_rf x6), (7, .int x7)]) C (u := 8) rfl (by rfl) (by decide) rfl dX2_sort_119 (r_goto (tgt := 80) C (by decide) dX2_sort_122 ?_)
      exact r_sub C [1, 2, 3, 4, 5, 6, 7, 8, 0] rfl (hLA80 _ _ _ _ _ _ _ _ _ _ _ _ hp46 hp47 hw)
theorem b_X2_sort_80 {G : gT} {l : Launch} {V : Hp → Nat → Nat → Nat → List (Nat × Value) → List Value → Prop} {mc ms : Nat} {Q : Int32 → Hp → Prop} (C : Cx G l V cX2_sort 9 RX2 12 262 mc ms (pI Q) none (some .int) [] false) (LA37 : Hp → Nat → Nat → Nat → Int32 → (Option Nat) → (Option Nat) → Nat → Int32 → (Option Nat) → Prop) (hLA37 : ∀ (h : Hp) (c : Nat) (n : Nat) (x0 : Nat) (x1 : Int32) (x2 : Option Nat) (x3 : Option Nat) (x4 : Nat) (x5 : Int32) (x6 : Option Nat), c ≤ mc → n ≤ ms → LA37 h c n x0 x1 x2 x3 x4 x5 x6 → V h c n 37 [(0, .ref x0), (1, .int x1), (2, va_rf x2), (3, va_rf x3), (4, .ref x4), (5, .int x5), (6, va_rf x6)] []) : ∀ (k : Nat) (h : Hp) (c : Nat) (n : Nat) (x0 : Nat) (x1 : Int32) (x2 : Option Nat) (x3 : Option Nat) (x4 : Nat) (x5 : Int32) (x6 : Option Nat) (x7 : Int32) (x8 : Int32), c ≤ mc → n ≤ ms → B_X2_sort_80 mc ms Q LA37 k h c n x0 x1 x2 x3 x4 x5 x6 x7 x8 → V h c n 80 [(0, .ref x0), (1, .int x1), (2, va_rf x2), (3, va_rf x3), (4, .ref x4), (5, .int x5), (6, va_rf x6), (7, .int x7), (8, .int x8)] [] := by
  intro k
  induction k with
  | zero =>
    intro h c n x0 x1 x2 x3 x4 x5 x6 x7 x8 b1 b2 hw
    exact hw.elim
  | succ k ih =>
    intro h c n x0 x1 x2 x3 x4 x5 x6 x7 x8 b1 b2 hw
    exact s_X2_sort_80 C LA37 hLA37 _ (fun h c n x0 x1 x2 x3 x4 x5 x6 x7 x8 b1 b2 hw => ih h c n x0 x1 x2 x3 x4 x5 x6 x7 x8 b1 b2 hw) h c n x0 x1 x2 x3 x4 x5 x6 x7 x8 b1 b2 hw
theorem s_X2_sort_149 {G : gT} {l : Launch} {V : Hp → Nat → Nat → Nat → List (Nat × Value) → List Value → Prop} {mc ms : Nat} {Q : Int32 → Hp → Prop} (C : Cx G l V cX2_sort 9 RX2 12 262 mc ms (pI Q) none (some .int) [] false) (LA149 : Hp → Nat → Nat → Nat → Int32 → (Option Nat) → Nat → Int32 → Int32 → Prop) (hLA149 : ∀ (h : Hp) (c : Nat) (n : Nat) (x0 : Nat) (x1 : Int32) (x3 : Option Nat) (x4 : Nat) (x6 : Int32) (x7 : Int32), c ≤ mc → n ≤ ms → LA149 h c n x0 x1 x3 x4 x6 x7 → V h c n 149 [(0, .ref x0), (1, .int x1), (3, va_rf x3), (4, .ref x4), (6, .int x6), (7, .int x7)] []) (h : Hp) (c : Nat) (n : Nat) (x0 : Nat) (x1 : Int32) (x3 : Option Nat) (x4 : Nat) (x6 : Int32) (x7 : Int32) (b1 : c ≤ mc) (b2 : n ≤ ms) (hw : S_X2_sort_149 mc ms Q LA149 h c n x0 x1 x3 x4 x6 x7) : V h c n 149 [(0, .ref x0), (1, .int x1), (3, va_rf x3), (4, .ref x4), (6, .int x6), (7, .int x7)] [] := by
  unfold S_X2_sort_149 at hw
  refine r_iload C 5 rfl dX2_sort_149 (r_aload C 3 rfl dX2_sort_151 ?_)
  obtain ⟨hq66, hw⟩ := hw
  refine r_callV (ci := 9) (rest := [.int x7]) (As := []) C sg_J4_size rfl rfl q1545 q421 q2649 q83 q423 rfl (Nat.le_of_ble_eq_true rfl) dX2_sort_153 rfl hq66 b1 b2 (cj_J4_size G l x4 h _ hw) (k_I (fun r67 h68 hw => ?_))
  refine r_icmp_ge (tgt := 203) C (by decide) dX2_sort_156 (fun hc69 => ?_) (fun hc69 => ?_)
  · have hw := hw.1 hc69
    refine r_aload_n C rfl 0 rfl dX2_sort_203 ?_
    refine r_gfR (k := 3) C kX2 (by decide) (Or.inl q308) (Or.inl rfl) dX2_sort_204 hw (fun v70 hw => ?_)
    refine r_iload_n C rfl 1 rfl dX2_sort_207 (r_aload C 3 rfl dX2_sort_208 ?_)
    obtain ⟨y71, rfl, hw_y71⟩ := hw
    have hw := hw_y71
    obtain ⟨hq72, hw⟩ := hw
    refine r_callF (ci := 8) (rest := []) (As := [.int x1, .ref x4]) C (x := ⟨"java/util/List", "set", "(ILjava/lang/Object;)Ljava/lang/Object;"⟩) (show ySg ⟨"java/util/List", "set", "(ILjava/lang/Object;)Ljava/lang/Object;"⟩ 2 = true by decide +kernel) rfl q2016 q2019 q2021 q81 q2023 (List.mem_of_getElem? (i := 28) rfl) rfl (Nat.le_of_ble_eq_true rfl) dX2_sort_210 rfl hq72 b1 b2 (cj_J2_set G l y71 x1 x4 h68 _ hw) (k_R (fun r73 h74 hw => ?_))
    refine r_pop C (va_rf_cat _) dX2_sort_215 (r_iload C 4 rfl dX2_sort_216 ?_)
    exact r_ireturn C dX2_sort_218 b1 b2 ⟨_, rfl, hw⟩
  · have hw := hw.2 hc69
    refine r_iload C 4 rfl dX2_sort_159 (r_aload C 3 rfl dX2_sort_161 (r_iload C 5 rfl dX2_sort_163 ?_))
    obtain ⟨hq75, hw⟩ := hw
    refine r_callV (ci := 9) (rest := [.int x6]) (As := [.int x7]) C sg_J4_get rfl rfl q2014 q470 q2651 q83 q472 rfl (Nat.le_of_ble_eq_true rfl) dX2_sort_165 rfl hq75 b1 b2 (cj_J4_get G l x4 x7 h68 _ hw) (k_R (fun r76 h77 hw => ?_))
    obtain ⟨e79, hw⟩ := hw
    refine r_cast (x := r76) C (ci := 12) rfl q1558 dX2_sort_168 e79 ?_
    obtain ⟨y80, rfl, hw_y80⟩ := hw
    have hw := hw_y80
    obtain ⟨hq81, hw⟩ := hw
    refine r_callV (ci := 12) (rest := [.int x6]) (As := []) C sg_J24_intValue rfl rfl q1559 q952 q953 q105 q954 rfl (Nat.le_of_ble_eq_true rfl) dX2_sort_171 rfl hq81 b1 b2 (cj_J24_intValue G l y80 h77 _ hw) (k_I (fun r82 h83 hw => ?_))
    refine r_aload_nO C rfl 2 rfl dX2_sort_174 (r_iload C 5 rfl dX2_sort_175 ?_)
    obtain ⟨y84, rfl, hw_y84⟩ := hw
    have hw := hw_y84
    obtain ⟨hq85, hw⟩ := hw
    refine r_callV (ci := 9) (rest := [.int r82, .int x6]) (As := [.int x7]) C sg_J4_get rfl rfl q2014 q470 q2651 q83 q472 rfl (Nat.le_of_ble_eq_true rfl) dX2_sort_177 rfl hq85 b1 b2 (cj_J4_get G l y84 x7 h83 _ hw) (k_R (fun r86 h87 hw => ?_))
    obtain ⟨e89, hw⟩ := hw
    refine r_cast (x := r86) C (ci := 12) rfl q1558 dX2_sort_180 e89 ?_
    obtain ⟨y90, rfl, hw_y90⟩ := hw
    have hw := hw_y90
    obtain ⟨hq91, hw⟩ := hw
    refine r_callV (ci := 12) (rest := [.int r82, .int x6]) (As := []) C sg_J24_intValue rfl rfl q1559 q952 q953 q105 q954 rfl (Nat.le_of_ble_eq_true rfl) dX2_sort_183 rfl hq91 b1 b2 (cj_J24_intValue G l y90 h87 _ hw) (k_I (fun r92 h93 hw => ?_))
    have hJ : V h93 c n 194 [(0, .ref x0), (1, .int x1), (3, .ref y84), (4, .ref x4), (7, .int x7)] [.int (bI (if ¬ r82 = r92 then true else false)), .int x6] := by
      refine r_iadd C dX2_sort_194 (r_istore (L' := [(6, .int (x6 + (bI (if ¬ r82 = r92 then true else false)))), (0, .ref x0), (1, .int x1), (3, .ref y84), (4, .ref x4), (7, .int x7)]) C (by decide) rfl dX2_sort_195 (r_iinc (v := x7 + (1 : Int32)) (L' := [(7, .int (x7 + (1 : Int32))), (6, .int (x6 + (bI (if ¬ r82 = r92 then true else false)))), (0, .ref x0), (1, .int x1), (3, .ref y84), (4, .ref x4)]) C (u := 5) rfl (by rfl) (by decide) rfl dX2_sort_197 (r_goto (tgt := 149) C (by decide) dX2_sort_200 ?_)))
      exact r_sub C [2, 3, 4, 5, 1, 0] rfl (hLA149 _ _ _ _ _ _ _ _ _ b1 b2 hw)
    refine r_icmp_ne (tgt := 193) C (by decide) dX2_sort_186 (fun hc94 => ?_) (fun hc94 => ?_)
    · have hJ95 := hJ
      try simp only [if_pos hc94] at hJ95
      refine r_iconst (v := (1 : Int32)) C (by decide) dX2_sort_193 ?_
      exact r_sub C [0, 1, 2, 3, 5] rfl hJ95
    · have hJ95 := hJ
      try simp only [if_neg (show ¬ ¬ r82 = r92 from fun z => z hc94)] at hJ95
      refine r_iconst (v := (0 : Int32)) C (by decide) dX2_sort_189 (r_goto (tgt := 194) C (by decide) dX2_sort_190 ?_)
      exact r_sub C [0, 1, 2, 3, 5] rfl hJ95
theorem b_X2_sort_149 {G : gT} {l : Launch} {V : Hp → Nat → Nat → Nat → List (Nat × Value) → List Value → Prop} {mc ms : Nat} {Q : Int32 → Hp → Prop} (C : Cx G l V cX2_sort 9 RX2 12 262 mc ms (pI Q) none (some .int) [] false) : ∀ (k : Nat) (h : Hp) (c : Nat) (n : Nat) (x0 : Nat) (x1 : Int32) (x3 : Option Nat) (x4 : Nat) (x6 : Int32) (x7 : Int32), c ≤ mc → n ≤ ms → B_X2_sort_149 mc ms Q k h c n x0 x1 x3 x4 x6 x7 → V h c n 149 [(0, .ref x0), (1, .int x1), (3, va_rf x3), (4, .ref x4), (6, .int x6), (7, .int x7)] [] := by
  intro k
  induction k with
  | zero =>
    intro h c n x0 x1 x3 x4 x6 x7 b1 b2 hw
    exact hw.elim
  | succ k ih =>
    intro h c n x0 x1 x3 x4 x6 x7 b1 b2 hw
    exact s_X2_sort_149 C _ (fun h c n x0 x1 x3 x4 x6 x7 b1 b2 hw => ih h c n x0 x1 x3 x4 x6 x7 b1 b2 hw) h c n x0 x1 x3 x4 x6 x7 b1 b2 hw
theorem s_X2_sort_37 {G : gT} {l : Launch} {V : Hp → Nat → Nat → Nat → List (Nat × Value) → List Value → Prop} {mc ms : Nat} {Q : Int32 → Hp → Prop} (C : Cx G l V cX2_sort 9 RX2 12 262 mc ms (pI Q) none (some .int) [] false) (LA37 : Hp → Nat → Nat → Nat → Int32 → (Option Nat) → (Option Nat) → Nat → Int32 → (Option Nat) → Prop) (hLA37 : ∀ (h : Hp) (c : Nat) (n : Nat) (x0 : Nat) (x1 : Int32) (x2 : Option Nat) (x3 : Option Nat) (x4 : Nat) (x5 : Int32) (x6 : Option Nat), c ≤ mc → n ≤ ms → LA37 h c n x0 x1 x2 x3 x4 x5 x6 → V h c n 37 [(0, .ref x0), (1, .int x1), (2, va_rf x2), (3, va_rf x3), (4, .ref x4), (5, .int x5), (6, va_rf x6)] []) (h : Hp) (c : Nat) (n : Nat) (x0 : Nat) (x1 : Int32) (x2 : Option Nat) (x3 : Option Nat) (x4 : Nat) (x5 : Int32) (x6 : Option Nat) (b1 : c ≤ mc) (b2 : n ≤ ms) (hw : S_X2_sort_37 mc ms Q LA37 h c n x0 x1 x2 x3 x4 x5 x6) : V h c n 37 [(0, .ref x0), (1, .int x1), (2, va_rf x2), (3, va_rf x3), (4, .ref x4), (5, .int x5), (6, va_rf x6)] [] := by
  unfold S_X2_sort_37 at hw
  refine r_aloadO C 6 rfl dX2_sort_37 ?_
  obtain ⟨y1, rfl, hw_y1⟩ := hw
  have hw := hw_y1
  obtain ⟨hq2, hw⟩ := hw
  refine r_callF (ci := 14) (rest := []) (As := []) C (x := ⟨"java/util/Iterator", "hasNext", "()Z"⟩) (show ySg ⟨"java/util/Iterator", "hasNext", "()Z"⟩ 0 = true by decide +kernel) rfl q1161 q1192 q1194 q114 q1196 (List.mem_of_getElem? (i := 16) rfl) rfl (Nat.le_of_ble_eq_true rfl) dX2_sort_39 rfl hq2 b1 b2 (cj_J28_hasNext G l y1 h _ hw) (k_Z (fun r3 h4 hw => ?_))
  refine r_if_eq_b (tgt := 143) C (by decide) dX2_sort_44 (fun hc5 => ?_) (fun hc5 => ?_)
  · have hw := hw.1 hc5
    refine r_iconst (v := (0 : Int32)) C (by decide) dX2_sort_143 (r_istore (L' := [(6, .int (0 : Int32)), (0, .ref x0), (1, .int x1), (2, va_rf x2), (3, va_rf x3), (4, .ref x4), (5, .int x5)]) C (by decide) rfl dX2_sort_144 (r_iconst (v := (0 : Int32)) C (by decide) dX2_sort_146 (r_istore (L' := [(7, .int (0 : Int32)), (6, .int (0 : Int32)), (0, .ref x0), (1, .int x1), (2, va_rf x2), (3, va_rf x3), (4, .ref x4), (5, .int x5)]) C (by decide) rfl dX2_sort_147 ?_)))
    obtain ⟨k9, hw⟩ := hw
    exact r_sub C [2, 3, 5, 6, 1, 0] rfl (b_X2_sort_149 C _ _ _ _ _ _ _ _ _ _ b1 b2 hw)
  · have hw := hw.2 hc5
    refine r_aload C 6 rfl dX2_sort_47 ?_
    obtain ⟨hq6, hw⟩ := hw
    refine r_callF (ci := 14) (rest := []) (As := []) C (x := ⟨"java/util/Iterator", "next", "()Ljava/lang/Object;"⟩) (show ySg ⟨"java/util/Iterator", "next", "()Ljava/lang/Object;"⟩ 0 = true by decide +kernel) rfl q1198 q1311 q1313 q114 q1315 (List.mem_of_getElem? (i := 21) rfl) rfl (Nat.le_of_ble_eq_true rfl) dX2_sort_49 rfl hq6 b1 b2 (cj_J28_next G l y1 h4 _ hw) (k_R (fun r7 h8 hw => ?_))
    obtain ⟨e10, hw⟩ := hw
    refine r_cast (x := r7) C (ci := 12) rfl q1558 dX2_sort_54 e10 ?_
    obtain ⟨y11, rfl, hw_y11⟩ := hw
    have hw := hw_y11
    obtain ⟨hq12, hw⟩ := hw
    refine r_callV (ci := 12) (rest := []) (As := []) C sg_J24_intValue rfl rfl q1559 q952 q953 q105 q954 rfl (Nat.le_of_ble_eq_true rfl) dX2_sort_57 rfl hq12 b1 b2 (cj_J24_intValue G l y11 h8 _ hw) (k_I (fun r13 h14 hw => ?_))
    refine r_istore (L' := [(7, .int r13), (0, .ref x0), (1, .int x1), (2, va_rf x2), (3, va_rf x3), (4, .ref x4), (5, .int x5), (6, .ref y1)]) C (by decide) rfl dX2_sort_60 (r_aload C 5 rfl dX2_sort_62 ?_)
    obtain ⟨hq15, hw⟩ := hw
    refine r_callV (ci := 9) (rest := []) (As := []) C sg_J4_size rfl rfl q1545 q421 q2649 q83 q423 rfl (Nat.le_of_ble_eq_true rfl) dX2_sort_64 rfl hq15 b1 b2 (cj_J4_size G l x4 h14 _ hw) (k_I (fun r16 h17 hw => ?_))
    refine r_istore (L' := [(8, .int r16), (7, .int r13), (0, .ref x0), (1, .int x1), (2, va_rf x2), (3, va_rf x3), (4, .ref x4), (5, .int x5), (6, .ref y1)]) C (by decide) rfl dX2_sort_67 (r_aload_nO C rfl 4 rfl dX2_sort_69 (r_iload C 1 rfl dX2_sort_70 ?_))
    obtain ⟨y18, rfl, hw_y18⟩ := hw
    have hw := hw_y18
    refine r_iaload C dX2_sort_72 hw (fun v19 hw => ?_)
    refine r_if_ne (tgt := 128) C (by decide) dX2_sort_73 (fun hc20 => ?_) (fun hc20 => ?_)
    · have hw := hw.1 hc20
      exact r_sub C [2, 3, 4, 5, 6, 7, 8, 1, 0] rfl (b_X2_sort_128 C LA37 hLA37 _ _ _ _ _ _ _ _ _ _ _ _ b1 b2 hw)
    · have hw := hw.2 hc20
      refine r_iload C 7 rfl dX2_sort_76 (r_istore (L' := [(8, .int x5), (7, .int r13), (0, .ref x0), (1, .int x1), (2, .ref y18), (3, va_rf x3), (4, .ref x4), (5, .int x5), (6, .ref y1)]) C (by decide) rfl dX2_sort_78 ?_)
      obtain ⟨k9, hw⟩ := hw
      exact r_sub C [2, 3, 4, 5, 6, 7, 8, 1, 0] rfl (b_X2_sort_80 C LA37 hLA37 _ _ _ _ _ _ _ _ _ _ _ _ _ b1 b2 hw)
theorem b_X2_sort_37 {G : gT} {l : Launch} {V : Hp → Nat → Nat → Nat → List (Nat × Value) → List Value → Prop} {mc ms : Nat} {Q : Int32 → Hp → Prop} (C : Cx G l V cX2_sort 9 RX2 12 262 mc ms (pI Q) none (some .int) [] false) : ∀ (k : Nat) (h : Hp) (c : Nat) (n : Nat) (x0 : Nat) (x1 : Int32) (x2 : Option Nat) (x3 : Option Nat) (x4 : Nat) (x5 : Int32) (x6 : Option Nat), c ≤ mc → n ≤ ms → B_X2_sort_37 mc ms Q k h c n x0 x1 x2 x3 x4 x5 x6 → V h c n 37 [(0, .ref x0), (1, .int x1), (2, va_rf x2), (3, va_rf x3), (4, .ref x4), (5, .int x5), (6, va_rf x6)] [] := by
  intro k
  induction k with
  | zero =>
    intro h c n x0 x1 x2 x3 x4 x5 x6 b1 b2 hw
    exact hw.elim
  | succ k ih =>
    intro h c n x0 x1 x2 x3 x4 x5 x6 b1 b2 hw
    exact s_X2_sort_37 C _ (fun h c n x0 x1 x2 x3 x4 x5 x6 b1 b2 hw => ih h c n x0 x1 x2 x3 x4 x5 x6 b1 b2 hw) h c n x0 x1 x2 x3 x4 x5 x6 b1 b2 hw
theorem sg_X2_sort : ySg yX2_sort 1 = true := by decide +kernel
theorem c_X2_sort (G : gT) (l : Launch) (mc ms : Nat) (a0 : Nat) (i1 : Int32) (h : Hp) (Q : Int32 → Hp → Prop) (hw : w_X2_sort mc ms a0 i1 h Q) : Ct G l yX2_sort (ws_ yX2_sort cX2_sort 9 (some .int)) 12 262 mc ms [.ref a0, .int i1] h (pI Q) := by
  refine Ct.of (own := RX2) false (by decide +kernel) rfl (show (_ : Nat) ≤ _ from Nat.le_of_ble_eq_true rfl) (fun z => by cases z) (fun V C => ?_)
  show V h 0 0 0 [(0, .ref a0), (1, .int i1)] []
  unfold w_X2_sort at hw
  refine r_aload_n C rfl 0 rfl dX2_sort_0 ?_
  obtain ⟨hq96, hw⟩ := hw
  obtain ⟨k99, k100, hp101, hp102, hw⟩ := hw
  refine r_callV (ci := 1) (rest := []) (As := []) C sg_X2_fakes rfl rfl q1383 q1384 q1385 q78 q1386 rfl (Nat.le_of_ble_eq_true rfl) dX2_sort_1 rfl hq96 hp101 hp102 (c_X2_fakes G l k99 k100 a0 h _ hw) (k_R (fun r97 h98 hw => ?_))
  refine r_astore_nO (x := r97) (L' := [(2, va_rf r97), (0, .ref a0), (1, .int i1)]) C rfl (by decide) rfl dX2_sort_4 (r_aload_n C rfl 1 rfl dX2_sort_5 ?_)
  refine r_gfR (k := 3) C kX2 (by decide) (Or.inl q308) (Or.inl rfl) dX2_sort_6 hw (fun v103 hw => ?_)
  refine r_iload_n C rfl 2 rfl dX2_sort_9 ?_
  obtain ⟨y104, rfl, hw_y104⟩ := hw
  have hw := hw_y104
  obtain ⟨hq105, hw⟩ := hw
  refine r_callF (ci := 8) (rest := []) (As := [.int i1]) C (x := ⟨"java/util/List", "get", "(I)Ljava/lang/Object;"⟩) (show ySg ⟨"java/util/List", "get", "(I)Ljava/lang/Object;"⟩ 1 = true by decide +kernel) rfl q450 q453 q455 q81 q457 (List.mem_of_getElem? (i := 6) rfl) rfl (Nat.le_of_ble_eq_true rfl) dX2_sort_10 rfl hq105 hp101 hp102 (cj_J2_get G l y104 i1 h98 _ hw) (k_R (fun r106 h107 hw => ?_))
  obtain ⟨e109, hw⟩ := hw
  refine r_cast (x := r106) C (ci := 9) rfl q169 dX2_sort_15 e109 ?_
  refine r_astore_nO (x := r106) (L' := [(3, va_rf r106), (2, va_rf r97), (0, .ref a0), (1, .int i1)]) C rfl (by decide) (by rcases r97 with _ | _ <;> rfl) dX2_sort_18 ?_
  obtain ⟨hp110, hp111, hw⟩ := hw
  refine r_new C kJ4 q169 q170 q83 df_9 dX2_sort_19 hp110 hp111 hw (fun q112 h113 hw => ?_)
  refine r_dup C rfl dX2_sort_22 ?_
  refine r_callI (rest := [.ref q112]) (As := []) C sg_J4_init rfl q171 q172 q83 q173 rfl (Nat.le_of_ble_eq_true rfl) dX2_sort_23 rfl hp110 hp111 (cj_J4_init G l q112 h113 _ hw) (k_V (fun h115 hw => ?_))
  refine r_astore (L' := [(4, .ref q112), (3, va_rf r106), (2, va_rf r97), (0, .ref a0), (1, .int i1)]) C (by decide) (by rcases r106 with _ | _ <;> rfl) dX2_sort_26 (r_iconst (v := (0 : Int32)) C (by decide) dX2_sort_28 (r_istore (L' := [(5, .int (0 : Int32)), (4, .ref q112), (3, va_rf r106), (2, va_rf r97), (0, .ref a0), (1, .int i1)]) C (by decide) rfl dX2_sort_29 (r_aload_nO C rfl 2 rfl dX2_sort_31 ?_)))
  obtain ⟨y116, rfl, hw_y116⟩ := hw
  have hw := hw_y116
  obtain ⟨hq117, hw⟩ := hw
  obtain ⟨k120, k121, hp122, hp123, hw⟩ := hw
  refine r_callU (ci := 9) (owner := "java/util/AbstractSequentialList") (rest := []) (As := []) C (x := ⟨"java/util/LinkedList", "iterator", "()Ljava/util/Iterator;"⟩) (show ySg ⟨"java/util/AbstractSequentialList", "iterator", "()Ljava/util/Iterator;"⟩ 0 = true by decide +kernel) rfl q1554 q1555 q1557 q1079 q82 q1081 (by decide +kernel) rfl (Nat.le_of_ble_eq_true rfl) dX2_sort_32 rfl hq117 hp122 hp123 (cj_J3_iterator G l k120 k121 y116 h115 _ hw) (k_R (fun r118 h119 hw => ?_))
  refine r_astoreO (x := r118) (L' := [(6, va_rf r118), (5, .int (0 : Int32)), (4, .ref q112), (3, .ref y116), (2, va_rf r97), (0, .ref a0), (1, .int i1)]) C (by decide) rfl dX2_sort_35 ?_
  obtain ⟨k9, hw⟩ := hw
  exact r_sub C [5, 6, 4, 3, 2, 1, 0] rfl (b_X2_sort_37 C _ _ _ _ _ _ _ _ _ _ _ hp122 hp123 hw)
def B_X2_decides_105 (mc ms : Nat) (Q : Int32 → Hp → Prop) (LA7 : Hp → Nat → Nat → Nat → Int32 → Int32 → Int32 → Int32 → Prop) (h : Hp) (c : Nat) (n : Nat) (x0 : Nat) (x1 : Int32) (x2 : Int32) (x3 : Int32) (x4 : Int32) : Prop :=
  LA7 h c n x0 x1 x2 x3 (x4 + (1 : Int32))
def S_X2_decides_7 (mc ms : Nat) (Q : Int32 → Hp → Prop) (LA7 : Hp → Nat → Nat → Nat → Int32 → Int32 → Int32 → Int32 → Prop) (h : Hp) (c : Nat) (n : Nat) (x0 : Nat) (x1 : Int32) (x2 : Int32) (x3 : Int32) (x4 : Int32) : Prop :=
  gfR h x0 1 2 (fun v1 => nn v1 (fun y2 => hasC h y2 8 ∧ (wj_J2_size y2 h (fun r4 h5 => (r4 ≤ x4 → Q x2 h5) ∧ (¬ r4 ≤ x4 → gfR h5 x0 1 2 (fun v7 => nn v7 (fun y8 => hasC h5 y8 8 ∧ (wj_J2_get y8 x4 h5 (fun r10 h11 => (∀ z12 : Nat, r10 = some z12 → hasC h11 z12 5) ∧ (nn r10 (fun y14 => gfI h11 y14 5 5 (fun v15 => (¬ v15 = x1 → B_X2_decides_105 mc ms Q LA7 h11 c n x0 x1 x2 x3 x4) ∧ (v15 = x1 → hasC h11 x0 1 ∧ (∃ k20 k21 : Nat, c + k20 ≤ mc ∧ n + k21 ≤ ms ∧ (w_X2_alone k20 k21 x0 x4 h11 (fun r18 h19 => (¬ r18 = 0 → B_X2_decides_105 mc ms Q LA7 h19 (c + k20) (n + k21) x0 x1 x2 x3 x4) ∧ (r18 = 0 → hasC h19 x0 1 ∧ (∃ k28 k29 : Nat, (c + k20) + k28 ≤ mc ∧ (n + k21) + k29 ≤ ms ∧ (w_X2_yearsOf k28 k29 x0 x1 x4 h19 (fun r26 h27 => nn r26 (fun y32 => hasC h27 y32 15 ∧ (wj_J30_cardinality y32 h27 (fun r34 h35 => B_X2_decides_105 mc ms Q LA7 h35 ((c + k20) + k28) ((n + k21) + k29) x0 x1 (if (if x2 = (-1 : Int32) then true else (if r34 ≤ x3 then false else true)) = false then x2 else x4) (if (if x2 = (-1 : Int32) then true else (if r34 ≤ x3 then false else true)) = false then x3 else r34) x4)))))))))))))))))))))))
def B_X2_decides_7 (mc ms : Nat) (Q : Int32 → Hp → Prop) : Nat → Hp → Nat → Nat → Nat → Int32 → Int32 → Int32 → Int32 → Prop
  | 0, _, _, _, _, _, _, _, _ => False
  | k + 1, h, c, n, x0, x1, x2, x3, x4 => S_X2_decides_7 mc ms Q (B_X2_decides_7 mc ms Q k) h c n x0 x1 x2 x3 x4
def w_X2_decides (mc ms : Nat) (a0 : Nat) (i1 : Int32) (h : Hp) (Q : Int32 → Hp → Prop) : Prop :=
  ∃ k9 : Nat, B_X2_decides_7 mc ms Q k9 h 0 0 a0 i1 (-1 : Int32) (0 : Int32) (0 : Int32)
theorem b_X2_decides_105 {G : gT} {l : Launch} {V : Hp → Nat → Nat → Nat → List (Nat × Value) → List Value → Prop} {mc ms : Nat} {Q : Int32 → Hp → Prop} (C : Cx G l V cX2_decides 7 RX2 11 238 mc ms (pI Q) none (some .int) [] false) (LA7 : Hp → Nat → Nat → Nat → Int32 → Int32 → Int32 → Int32 → Prop) (hLA7 : ∀ (h : Hp) (c : Nat) (n : Nat) (x0 : Nat) (x1 : Int32) (x2 : Int32) (x3 : Int32) (x4 : Int32), c ≤ mc → n ≤ ms → LA7 h c n x0 x1 x2 x3 x4 → V h c n 7 [(0, .ref x0), (1, .int x1), (2, .int x2), (3, .int x3), (4, .int x4)] []) (h : Hp) (c : Nat) (n : Nat) (x0 : Nat) (x1 : Int32) (x2 : Int32) (x3 : Int32) (x4 : Int32) (b1 : c ≤ mc) (b2 : n ≤ ms) (hw : B_X2_decides_105 mc ms Q LA7 h c n x0 x1 x2 x3 x4) : V h c n 105 [(0, .ref x0), (1, .int x1), (2, .int x2), (3, .int x3), (4, .int x4)] [] := by
  unfold B_X2_decides_105 at hw
  refine r_iinc (v := x4 + (1 : Int32)) (L' := [(4, .int (x4 + (1 : Int32))), (0, .ref x0), (1, .int x1), (2, .int x2), (3, .int x3)]) C (u := 4) rfl (by rfl) (by decide) rfl dX2_decides_105 (r_goto (tgt := 7) C (by decide) dX2_decides_108 ?_)
  exact r_sub C [1, 2, 3, 4, 0] rfl (hLA7 _ _ _ _ _ _ _ _ b1 b2 hw)
theorem s_X2_decides_7 {G : gT} {l : Launch} {V : Hp → Nat → Nat → Nat → List (Nat × Value) → List Value → Prop} {mc ms : Nat} {Q : Int32 → Hp → Prop} (C : Cx G l V cX2_decides 7 RX2 11 238 mc ms (pI Q) none (some .int) [] false) (LA7 : Hp → Nat → Nat → Nat → Int32 → Int32 → Int32 → Int32 → Prop) (hLA7 : ∀ (h : Hp) (c : Nat) (n : Nat) (x0 : Nat) (x1 : Int32) (x2 : Int32) (x3 : Int32) (x4 : Int32), c ≤ mc → n ≤ ms → LA7 h c n x0 x1 x2 x3 x4 → V h c n 7 [(0, .ref x0), (1, .int x1), (2, .int x2), (3, .int x3), (4, .int x4)] []) (h : Hp) (c : Nat) (n : Nat) (x0 : Nat) (x1 : Int32) (x2 : Int32) (x3 : Int32) (x4 : Int32) (b1 : c ≤ mc) (b2 : n ≤ ms) (hw : S_X2_decides_7 mc ms Q LA7 h c n x0 x1 x2 x3 x4) : V h c n 7 [(0, .ref x0), (1, .int x1), (2, .int x2), (3, .int x3), (4, .int x4)] [] := by
  unfold S_X2_decides_7 at hw
  refine r_iload C 4 rfl dX2_decides_7 (r_aload_n C rfl 0 rfl dX2_decides_9 ?_)
  refine r_gfR (k := 2) C kX2 (by decide) (Or.inl q305) (Or.inl rfl) dX2_decides_10 hw (fun v1 hw => ?_)
  obtain ⟨y2, rfl, hw_y2⟩ := hw
  have hw := hw_y2
  obtain ⟨hq3, hw⟩ := hw
  refine r_callF (ci := 8) (rest := [.int x4]) (As := []) C (x := ⟨"java/util/List", "size", "()I"⟩) (show ySg ⟨"java/util/List", "size", "()I"⟩ 0 = true by decide +kernel) rfl q411 q414 q416 q81 q418 (List.mem_of_getElem? (i := 2) rfl) rfl (Nat.le_of_ble_eq_true rfl) dX2_decides_13 rfl hq3 b1 b2 (cj_J2_size G l y2 h _ hw) (k_I (fun r4 h5 hw => ?_))
  refine r_icmp_ge (tgt := 111) C (by decide) dX2_decides_18 (fun hc6 => ?_) (fun hc6 => ?_)
  · have hw := hw.1 hc6
    refine r_iload_n C rfl 2 rfl dX2_decides_111 ?_
    exact r_ireturn C dX2_decides_112 b1 b2 ⟨_, rfl, hw⟩
  · have hw := hw.2 hc6
    refine r_aload_n C rfl 0 rfl dX2_decides_21 ?_
    refine r_gfR (k := 2) C kX2 (by decide) (Or.inl q305) (Or.inl rfl) dX2_decides_22 hw (fun v7 hw => ?_)
    refine r_iload C 4 rfl dX2_decides_25 ?_
    obtain ⟨y8, rfl, hw_y8⟩ := hw
    have hw := hw_y8
    obtain ⟨hq9, hw⟩ := hw
    refine r_callF (ci := 8) (rest := []) (As := [.int x4]) C (x := ⟨"java/util/List", "get", "(I)Ljava/lang/Object;"⟩) (show ySg ⟨"java/util/List", "get", "(I)Ljava/lang/Object;"⟩ 1 = true by decide +kernel) rfl q450 q453 q455 q81 q457 (List.mem_of_getElem? (i := 6) rfl) rfl (Nat.le_of_ble_eq_true rfl) dX2_decides_27 rfl hq9 b1 b2 (cj_J2_get G l y8 x4 h5 _ hw) (k_R (fun r10 h11 hw => ?_))
    obtain ⟨e13, hw⟩ := hw
    refine r_cast (x := r10) C (ci := 5) rfl q992 dX2_decides_32 e13 ?_
    obtain ⟨y14, rfl, hw_y14⟩ := hw
    have hw := hw_y14
    refine r_gfI (k := 5) C kX6 (by decide) (Or.inr ⟨_, (List.mem_of_getElem? (i := 39) rfl)⟩) (Or.inl rfl) dX2_decides_35 hw (fun v15 hw => ?_)
    refine r_iload_n C rfl 1 rfl dX2_decides_38 ?_
    refine r_icmp_ne (tgt := 105) C (by decide) dX2_decides_39 (fun hc16 => ?_) (fun hc16 => ?_)
    · have hw := hw.1 hc16
      exact r_sub C [0, 1, 2, 3, 4] rfl (b_X2_decides_105 C LA7 hLA7 _ _ _ _ _ _ _ _ b1 b2 hw)
    · have hw := hw.2 hc16
      refine r_aload_n C rfl 0 rfl dX2_decides_42 (r_iload C 4 rfl dX2_decides_43 ?_)
      obtain ⟨hq17, hw⟩ := hw
      obtain ⟨k20, k21, hp22, hp23, hw⟩ := hw
      refine r_callV (ci := 1) (rest := []) (As := [.int x4]) C sg_X2_alone rfl rfl q1416 q1418 qs24 q78 q1419 rfl (Nat.le_of_ble_eq_true rfl) dX2_decides_45 rfl hq17 hp22 hp23 (c_X2_alone G l k20 k21 x0 x4 h11 _ hw) (k_I (fun r18 h19 hw => ?_))
      refine r_if_ne (tgt := 105) C (by decide) dX2_decides_48 (fun hc24 => ?_) (fun hc24 => ?_)
      · have hw := hw.1 hc24
        exact r_sub C [0, 1, 2, 3, 4] rfl (b_X2_decides_105 C LA7 hLA7 _ _ _ _ _ _ _ _ hp22 hp23 hw)
      · have hw := hw.2 hc24
        refine r_aload_n C rfl 0 rfl dX2_decides_51 (r_iload_n C rfl 1 rfl dX2_decides_52 (r_iload C 4 rfl dX2_decides_53 ?_))
        obtain ⟨hq25, hw⟩ := hw
        obtain ⟨k28, k29, hp30, hp31, hw⟩ := hw
        refine r_callV (ci := 1) (rest := []) (As := [.int x1, .int x4]) C sg_X2_yearsOf rfl rfl q1387 q1388 q1389 q78 q1390 rfl (Nat.le_of_ble_eq_true rfl) dX2_decides_55 rfl hq25 hp30 hp31 (c_X2_yearsOf G l k28 k29 x0 x1 x4 h19 _ hw) (k_R (fun r26 h27 hw => ?_))
        obtain ⟨y32, rfl, hw_y32⟩ := hw
        have hw := hw_y32
        obtain ⟨hq33, hw⟩ := hw
        refine r_callV (ci := 15) (rest := []) (As := []) C sg_J30_cardinality rfl rfl q2075 q1669 q1670 q116 q1671 rfl (Nat.le_of_ble_eq_true rfl) dX2_decides_58 rfl hq33 hp30 hp31 (cj_J30_cardinality G l y32 h27 _ hw) (k_I (fun r34 h35 hw => ?_))
        refine r_istore (L' := [(5, .int r34), (0, .ref x0), (1, .int x1), (2, .int x2), (3, .int x3), (4, .int x4)]) C (by decide) rfl dX2_decides_61 (r_iload_n C rfl 3 rfl dX2_decides_63 (r_iconst (v := (-1 : Int32)) C (by decide) dX2_decides_64 ?_))
        have hJ : V h35 ((c + k20) + k28) ((n + k21) + k29) 79 [(5, .int r34), (0, .ref x0), (1, .int x1), (2, .int x2), (3, .int x3), (4, .int x4)] [.int (bI (if x2 = (-1 : Int32) then true else (if r34 ≤ x3 then false else true)))] := by
          refine r_istore (L' := [(6, .int (bI (if x2 = (-1 : Int32) then true else (if r34 ≤ x3 then false else true)))), (5, .int r34), (0, .ref x0), (1, .int x1), (2, .int x2), (3, .int x3), (4, .int x4)]) C (by decide) rfl dX2_decides_79 (r_iload C 0 rfl dX2_decides_81 ?_)
          have hJ : V h35 ((c + k20) + k28) ((n + k21) + k29) 92 [(6, .int (bI (if x2 = (-1 : Int32) then true else (if r34 ≤ x3 then false else true)))), (5, .int r34), (0, .ref x0), (1, .int x1), (3, .int x3), (4, .int x4)] [.int (if (if x2 = (-1 : Int32) then true else (if r34 ≤ x3 then false else true)) = false then x2 else x4)] := by
            refine r_istore_n (L' := [(2, .int (if (if x2 = (-1 : Int32) then true else (if r34 ≤ x3 then false else true)) = false then x2 else x4)), (6, .int (bI (if x2 = (-1 : Int32) then true else (if r34 ≤ x3 then false else true)))), (5, .int r34), (0, .ref x0), (1, .int x1), (3, .int x3), (4, .int x4)]) C rfl (by decide) rfl dX2_decides_92 (r_iload C 1 rfl dX2_decides_93 ?_)
            have hJ : V h35 ((c + k20) + k28) ((n + k21) + k29) 104 [(2, .int (if (if x2 = (-1 : Int32) then true else (if r34 ≤ x3 then false else true)) = false then x2 else x4)), (0, .ref x0), (1, .int x1), (4, .int x4)] [.int (if (if x2 = (-1 : Int32) then true else (if r34 ≤ x3 then false else true)) = false then x3 else r34)] := by
              refine r_istore_n (L' := [(3, .int (if (if x2 = (-1 : Int32) then true else (if r34 ≤ x3 then false else true)) = false then x3 else r34)), (2, .int (if (if x2 = (-1 : Int32) then true else (if r34 ≤ x3 then false else true)) = false then x2 else x4)), (0, .ref x0), (1, .int x1), (4, .int x4)]) C rfl (by decide) rfl dX2_decides_104 ?_
              exact r_sub C [2, 3, 1, 0, 4] rfl (b_X2_decides_105 C LA7 hLA7 _ _ _ _ _ _ _ _ hp30 hp31 hw)
            refine r_if_eq_b (tgt := 103) C (by decide) dX2_decides_95 (fun hc36 => ?_) (fun hc36 => ?_)
            · have hJ37 := hJ
              try simp only [if_pos hc36] at hJ37 ⊢
              refine r_iload_n C rfl 5 rfl dX2_decides_103 ?_
              exact r_sub C [0, 3, 4, 6] rfl hJ37
            · have hJ37 := hJ
              try simp only [if_neg (show ¬ (if x2 = (-1 : Int32) then true else (if r34 ≤ x3 then false else true)) = false from by rw [hc36]; decide)] at hJ37 ⊢
              refine r_iload C 2 rfl dX2_decides_98 (r_goto (tgt := 104) C (by decide) dX2_decides_100 ?_)
              exact r_sub C [0, 3, 4, 6] rfl hJ37
          refine r_if_eq_b (tgt := 91) C (by decide) dX2_decides_83 (fun hc38 => ?_) (fun hc38 => ?_)
          · have hJ39 := hJ
            try simp only [if_pos hc38] at hJ39
            refine r_iload_n C rfl 4 rfl dX2_decides_91 ?_
            exact r_sub C [0, 1, 2, 3, 5, 6] rfl hJ39
          · have hJ39 := hJ
            try simp only [if_neg (show ¬ (if x2 = (-1 : Int32) then true else (if r34 ≤ x3 then false else true)) = false from by rw [hc38]; decide)] at hJ39
            refine r_iload C 6 rfl dX2_decides_86 (r_goto (tgt := 92) C (by decide) dX2_decides_88 ?_)
            exact r_sub C [0, 1, 2, 3, 5, 6] rfl hJ39
        refine r_icmp_eq (tgt := 74) C (by decide) dX2_decides_65 (fun hc40 => ?_) (fun hc40 => ?_)
        · have hJ41 := hJ
          try simp only [if_pos hc40] at hJ41
          refine r_iconst (v := (1 : Int32)) C (by decide) dX2_decides_74 (r_goto (tgt := 79) C (by decide) dX2_decides_75 ?_)
          exact r_sub C [0, 1, 2, 3, 4, 5] rfl hJ41
        · have hJ41 := hJ
          try simp only [if_neg hc40] at hJ41
          refine r_iload C 0 rfl dX2_decides_68 (r_iload_n C rfl 4 rfl dX2_decides_70 ?_)
          refine r_icmp_le (tgt := 78) C (by decide) dX2_decides_71 (fun hc42 => ?_) (fun hc42 => ?_)
          · have hJ43 := hJ41
            try simp only [if_pos hc42] at hJ43
            refine r_iconst (v := (0 : Int32)) C (by decide) dX2_decides_78 ?_
            exact r_sub C [0, 1, 2, 3, 4, 5] rfl hJ43
          · have hJ43 := hJ41
            try simp only [if_neg hc42] at hJ43
            refine r_iconst (v := (1 : Int32)) C (by decide) dX2_decides_74 (r_goto (tgt := 79) C (by decide) dX2_decides_75 ?_)
            exact r_sub C [0, 1, 2, 3, 4, 5] rfl hJ43
theorem b_X2_decides_7 {G : gT} {l : Launch} {V : Hp → Nat → Nat → Nat → List (Nat × Value) → List Value → Prop} {mc ms : Nat} {Q : Int32 → Hp → Prop} (C : Cx G l V cX2_decides 7 RX2 11 238 mc ms (pI Q) none (some .int) [] false) : ∀ (k : Nat) (h : Hp) (c : Nat) (n : Nat) (x0 : Nat) (x1 : Int32) (x2 : Int32) (x3 : Int32) (x4 : Int32), c ≤ mc → n ≤ ms → B_X2_decides_7 mc ms Q k h c n x0 x1 x2 x3 x4 → V h c n 7 [(0, .ref x0), (1, .int x1), (2, .int x2), (3, .int x3), (4, .int x4)] [] := by
  intro k
  induction k with
  | zero =>
    intro h c n x0 x1 x2 x3 x4 b1 b2 hw
    exact hw.elim
  | succ k ih =>
    intro h c n x0 x1 x2 x3 x4 b1 b2 hw
    exact s_X2_decides_7 C _ (fun h c n x0 x1 x2 x3 x4 b1 b2 hw => ih h c n x0 x1 x2 x3 x4 b1 b2 hw) h c n x0 x1 x2 x3 x4 b1 b2 hw
theorem sg_X2_decides : ySg yX2_decides 1 = true := by decide +kernel
theorem c_X2_decides (G : gT) (l : Launch) (mc ms : Nat) (a0 : Nat) (i1 : Int32) (h : Hp) (Q : Int32 → Hp → Prop) (hw : w_X2_decides mc ms a0 i1 h Q) : Ct G l yX2_decides (ws_ yX2_decides cX2_decides 7 (some .int)) 11 238 mc ms [.ref a0, .int i1] h (pI Q) := by
  refine Ct.of (own := RX2) false (by decide +kernel) rfl (show (_ : Nat) ≤ _ from Nat.le_of_ble_eq_true rfl) (fun z => by cases z) (fun V C => ?_)
  show V h 0 0 0 [(0, .ref a0), (1, .int i1)] []
  unfold w_X2_decides at hw
  refine r_iconst (v := (-1 : Int32)) C (by decide) dX2_decides_0 (r_istore_n (L' := [(2, .int (-1 : Int32)), (0, .ref a0), (1, .int i1)]) C rfl (by decide) rfl dX2_decides_1 (r_iconst (v := (0 : Int32)) C (by decide) dX2_decides_2 (r_istore_n (L' := [(3, .int (0 : Int32)), (2, .int (-1 : Int32)), (0, .ref a0), (1, .int i1)]) C rfl (by decide) rfl dX2_decides_3 (r_iconst (v := (0 : Int32)) C (by decide) dX2_decides_4 (r_istore (L' := [(4, .int (0 : Int32)), (3, .int (0 : Int32)), (2, .int (-1 : Int32)), (0, .ref a0), (1, .int i1)]) C (by decide) rfl dX2_decides_5 ?_)))))
  obtain ⟨k9, hw⟩ := hw
  exact r_sub C [3, 4, 2, 1, 0] rfl (b_X2_decides_7 C _ _ _ _ _ _ _ _ _ (Nat.zero_le _) (Nat.zero_le _) hw)
def w_X5_canCrack (mc ms : Nat) (a0 : Nat) (i1 : Int32) (h : Hp) (Q : Bool → Hp → Prop) : Prop :=
  gfR h a0 4 3 (fun v1 => nn v1 (fun y2 => hasC h y2 8 ∧ (wj_J2_size y2 h (fun r4 h5 => ((4 : Int32) ≤ r4 → Q false h5) ∧ (¬ (4 : Int32) ≤ r4 → gfR h5 a0 4 3 (fun v7 => ∃ k10 k11 : Nat, 0 + k10 ≤ mc ∧ 0 + k11 ≤ ms ∧ (wj_J24_valueOf k10 k11 i1 h5 (fun r8 h9 => nn v7 (fun y14 => nn r8 (fun y15 => hasC h9 y14 8 ∧ (wj_J2_contains y14 y15 h9 (fun r17 h18 => Q (if r17 = true then false else true) h18))))))))))))
theorem sg_X5_canCrack : ySg yX5_canCrack 1 = true := by decide +kernel
theorem c_X5_canCrack (G : gT) (l : Launch) (mc ms : Nat) (a0 : Nat) (i1 : Int32) (h : Hp) (Q : Bool → Hp → Prop) (hw : w_X5_canCrack mc ms a0 i1 h Q) : Ct G l yX5_canCrack (ws_ yX5_canCrack cX5_canCrack 2 (some .boolean)) 6 120 mc ms [.ref a0, .int i1] h (pZ Q) := by
  refine Ct.of (own := RX5) false (by decide +kernel) rfl (show (_ : Nat) ≤ _ from Nat.le_of_ble_eq_true rfl) (fun z => by cases z) (fun V C => ?_)
  show V h 0 0 0 [(0, .ref a0), (1, .int i1)] []
  unfold w_X5_canCrack at hw
  refine r_aload_n C rfl 0 rfl dX5_canCrack_0 ?_
  refine r_gfR (k := 3) C kX5 (by decide) (Or.inl q864) (Or.inl rfl) dX5_canCrack_1 hw (fun v1 hw => ?_)
  obtain ⟨y2, rfl, hw_y2⟩ := hw
  have hw := hw_y2
  obtain ⟨hq3, hw⟩ := hw
  refine r_callF (ci := 8) (rest := []) (As := []) C (x := ⟨"java/util/List", "size", "()I"⟩) (show ySg ⟨"java/util/List", "size", "()I"⟩ 0 = true by decide +kernel) rfl q894 q414 q416 q81 q418 (List.mem_of_getElem? (i := 2) rfl) rfl (Nat.le_of_ble_eq_true rfl) dX5_canCrack_4 rfl hq3 (Nat.zero_le _) (Nat.zero_le _) (cj_J2_size G l y2 h _ hw) (k_I (fun r4 h5 hw => ?_))
  refine r_iconst (v := (4 : Int32)) C (by decide) dX5_canCrack_9 ?_
  refine r_icmp_ge (tgt := 33) C (by decide) dX5_canCrack_10 (fun hc6 => ?_) (fun hc6 => ?_)
  · have hw := hw.1 hc6
    refine r_iconst (v := (0 : Int32)) C (by decide) dX5_canCrack_33 ?_
    exact r_zreturn (x := false) C dX5_canCrack_34 (Nat.zero_le _) (Nat.zero_le _) ⟨_, rfl, hw⟩
  · have hw := hw.2 hc6
    refine r_aload_n C rfl 0 rfl dX5_canCrack_13 ?_
    refine r_gfR (k := 3) C kX5 (by decide) (Or.inl q864) (Or.inl rfl) dX5_canCrack_14 hw (fun v7 hw => ?_)
    refine r_iload_n C rfl 1 rfl dX5_canCrack_17 ?_
    obtain ⟨k10, k11, hp12, hp13, hw⟩ := hw
    refine r_callS (rest := [va_rf v7]) (As := [.int i1]) C sg_J24_valueOf q895 q896 q105 q897 rfl (by rcases v7 with _ | _ <;> exact Nat.le_of_ble_eq_true rfl) dX5_canCrack_18 rfl hp12 hp13 (cj_J24_valueOf G l k10 k11 i1 h5 _ hw) (k_R (fun r8 h9 hw => ?_))
    obtain ⟨y14, rfl, hw_y14⟩ := hw
    have hw := hw_y14
    obtain ⟨y15, rfl, hw_y15⟩ := hw
    have hw := hw_y15
    obtain ⟨hq16, hw⟩ := hw
    refine r_callF (ci := 8) (rest := []) (As := [.ref y15]) C (x := ⟨"java/util/List", "contains", "(Ljava/lang/Object;)Z"⟩) (show ySg ⟨"java/util/List", "contains", "(Ljava/lang/Object;)Z"⟩ 1 = true by decide +kernel) rfl q916 q919 q921 q81 q923 (List.mem_of_getElem? (i := 8) rfl) rfl (Nat.le_of_ble_eq_true rfl) dX5_canCrack_21 rfl hq16 hp12 hp13 (cj_J2_contains G l y14 y15 h9 _ hw) (k_Z (fun r17 h18 hw => ?_))
    have hJ : V h18 (0 + k10) (0 + k11) 34 [] [.int (bI (if r17 = true then false else true))] := by
      exact r_zreturn (x := (if r17 = true then false else true)) C dX5_canCrack_34 hp12 hp13 ⟨_, rfl, hw⟩
    refine r_if_ne_b (tgt := 33) C (by decide) dX5_canCrack_26 (fun hc19 => ?_) (fun hc19 => ?_)
    · have hJ20 := hJ
      try simp only [if_pos hc19] at hJ20
      refine r_iconst (v := (0 : Int32)) C (by decide) dX5_canCrack_33 ?_
      exact r_sub C [] rfl hJ20
    · have hJ20 := hJ
      try simp only [if_neg (show ¬ r17 = true from by rw [hc19]; decide)] at hJ20
      refine r_iconst (v := (1 : Int32)) C (by decide) dX5_canCrack_29 (r_goto (tgt := 34) C (by decide) dX5_canCrack_30 ?_)
      exact r_sub C [] rfl hJ20
def w_X8_next (a0 : Nat) (h : Hp) (Q : Option Nat → Hp → Prop) : Prop :=
  hasC h a0 7 ∧ (w_X8_next_2 a0 h (fun r2 h3 => Q r2 h3))
theorem sg_X8_next : ySg yX8_next 0 = true := by decide +kernel
theorem c_X8_next (G : gT) (l : Launch) (a0 : Nat) (h : Hp) (Q : Option Nat → Hp → Prop) (hw : w_X8_next a0 h Q) : Ct G l yX8_next (ws_ yX8_next cX8_next 1 (some (.object "java/lang/Object"))) 5 97 0 0 [.ref a0] h (pR Q) := by
  refine Ct.of (own := RX8) false (by decide +kernel) rfl (show (_ : Nat) ≤ _ from Nat.le_of_ble_eq_true rfl) (fun z => by cases z) (fun V C => ?_)
  show V h 0 0 0 [(0, .ref a0)] []
  unfold w_X8_next at hw
  refine r_aload_n C rfl 0 rfl dX8_next_0 ?_
  obtain ⟨hq1, hw⟩ := hw
  refine r_callV (ci := 7) (rest := []) (As := []) C sg_X8_next_2 rfl rfl q1206 q1207 q1208 q120 q1209 rfl (Nat.le_of_ble_eq_true rfl) dX8_next_1 rfl hq1 (Nat.le_refl _) (Nat.le_refl _) (c_X8_next_2 G l a0 h _ hw) (k_R (fun r2 h3 hw => ?_))
  exact r_areturn (x := r2) C (by first | exact Or.inl ⟨_, rfl⟩ | exact Or.inr ⟨_, rfl⟩) dX8_next_4 (Nat.le_refl _) (Nat.le_refl _) ⟨_, rfl, hw⟩
