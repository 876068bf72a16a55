set_option maxRecDepth 100000
set_option maxHeartbeats 4000000

def B_X3_dated_33 (Q : Int32 → Hp → Prop) (h : Hp) (x0 : Nat) (x1 : Int32) (x2 : Int32) (s0 : Nat) (s1 : Int32) : Prop :=
  hasC h s0 2 ∧ (w_X3_refused s0 s1 h (fun r2 h3 => (r2 = false → (¬ x2 = (3 : Int32) → gfR h3 x0 2 1 (fun v6 => nn v6 (fun y7 => w_X3_yearsOf y7 x1 x2 h3 (fun r8 h9 => Q r8 h9)))) ∧ (x2 = (3 : Int32) → gfR h3 x0 2 1 (fun v10 => nn v10 (fun y11 => hasC h3 x0 2 ∧ (w_X3_fake x0 y11 x1 h3 (fun r13 h14 => Q r13 h14)))))) ∧ (r2 = true → Q (0 : Int32) h3)))
def w_X3_dated (a0 : Nat) (i1 : Int32) (i2 : Int32) (h : Hp) (Q : Int32 → Hp → Prop) : Prop :=
  gfR h a0 2 1 (fun v15 => nn v15 (fun y16 => w_X3_hasSeal y16 i1 h (fun r17 h18 => (r17 = true → w_X3_in i2.toInt64 (0 : Int64) (3 : Int64) h18 (fun r20 h21 => B_X3_dated_33 Q h21 a0 i1 i2 a0 (if r20 = true then (0 : Int32) else (2 : Int32)))) ∧ (r17 = false → B_X3_dated_33 Q h18 a0 i1 i2 a0 (1 : Int32)))))
theorem b_X3_dated_33 {G : gT} {l : Launch} {V : Hp → Nat → Nat → Nat → List (Nat × Value) → List Value → Prop} {Q : Int32 → Hp → Prop} (C : Cx G l V cX3_dated 3 RX3 8 178 0 0 (pI Q) none (some .int) [] false) (h : Hp) (x0 : Nat) (x1 : Int32) (x2 : Int32) (s0 : Nat) (s1 : Int32) (hw : B_X3_dated_33 Q h x0 x1 x2 s0 s1) : V h 0 0 33 [(0, .ref x0), (1, .int x1), (2, .int x2)] [.int s1, .ref s0] := by
  unfold B_X3_dated_33 at hw
  obtain ⟨hq1, hw⟩ := hw
  refine r_callV (ci := 2) (rest := []) (As := [.int s1]) C sg_X3_refused rfl rfl q2222 q2224 qs38 q90 q2225 rfl (Nat.le_of_ble_eq_true rfl) dX3_dated_33 rfl hq1 (Nat.le_refl _) (Nat.le_refl _) (c_X3_refused G l s0 s1 h _ hw) (k_Z (fun r2 h3 hw => ?_))
  refine r_if_eq_b (tgt := 41) C (by decide) dX3_dated_36 (fun hc4 => ?_) (fun hc4 => ?_)
  · have hw := hw.1 hc4
    refine r_iload_n C rfl 2 rfl dX3_dated_41 (r_iconst (v := (3 : Int32)) C (by decide) dX3_dated_42 ?_)
    refine r_icmp_ne (tgt := 58) C (by decide) dX3_dated_43 (fun hc5 => ?_) (fun hc5 => ?_)
    · have hw := hw.1 hc5
      refine r_aload_n C rfl 0 rfl dX3_dated_58 ?_
      refine r_gfR (k := 1) C kX3 (by decide) (Or.inl q2156) (Or.inl rfl) dX3_dated_59 hw (fun v6 hw => ?_)
      refine r_iload_n C rfl 1 rfl dX3_dated_62 (r_iload_n C rfl 2 rfl dX3_dated_63 ?_)
      obtain ⟨y7, rfl, hw_y7⟩ := hw
      have hw := hw_y7
      refine r_callS (rest := []) (As := [.ref y7, .int x1, .int x2]) C sg_X3_yearsOf q2358 q2359 q90 q2360 rfl (Nat.le_of_ble_eq_true rfl) dX3_dated_64 rfl (Nat.le_refl _) (Nat.le_refl _) (c_X3_yearsOf G l y7 x1 x2 h3 _ hw) (k_I (fun r8 h9 hw => ?_))
      exact r_ireturn C dX3_dated_67 (Nat.le_refl _) (Nat.le_refl _) ⟨_, rfl, hw⟩
    · have hw := hw.2 hc5
      refine r_aload_n C rfl 0 rfl dX3_dated_46 (r_aload_n C rfl 0 rfl dX3_dated_47 ?_)
      refine r_gfR (k := 1) C kX3 (by decide) (Or.inl q2156) (Or.inl rfl) dX3_dated_48 hw (fun v10 hw => ?_)
      refine r_iload_n C rfl 1 rfl dX3_dated_51 ?_
      obtain ⟨y11, rfl, hw_y11⟩ := hw
      have hw := hw_y11
      obtain ⟨hq12, hw⟩ := hw
      refine r_callV (ci := 2) (rest := []) (As := [.ref y11, .int x1]) C sg_X3_fake rfl rfl q2339 q2341 qs54 q90 q2342 rfl (Nat.le_of_ble_eq_true rfl) dX3_dated_52 rfl hq12 (Nat.le_refl _) (Nat.le_refl _) (c_X3_fake G l x0 y11 x1 h3 _ hw) (k_I (fun r13 h14 hw => ?_))
      refine r_goto (tgt := 67) C (by decide) dX3_dated_55 ?_
      exact r_ireturn C dX3_dated_67 (Nat.le_refl _) (Nat.le_refl _) ⟨_, rfl, hw⟩
  · have hw := hw.2 hc4
    refine r_iconst (v := (0 : Int32)) C (by decide) dX3_dated_39 ?_
    exact r_ireturn C dX3_dated_40 (Nat.le_refl _) (Nat.le_refl _) ⟨_, rfl, hw⟩
theorem sg_X3_dated : ySg yX3_dated 2 = true := by decide +kernel
theorem c_X3_dated (G : gT) (l : Launch) (a0 : Nat) (i1 : Int32) (i2 : Int32) (h : Hp) (Q : Int32 → Hp → Prop) (hw : w_X3_dated a0 i1 i2 h Q) : Ct G l yX3_dated (ws_ yX3_dated cX3_dated 3 (some .int)) 8 178 0 0 [.ref a0, .int i1, .int i2] h (pI Q) := by
  refine Ct.of (own := RX3) false (by decide +kernel) rfl (show (_ : Nat) ≤ _ from Nat.le_of_ble_eq_true rfl) (fun z => by cases z) (fun V C => ?_)
  show V h 0 0 0 [(0, .ref a0), (1, .int i1), (2, .int i2)] []
  unfold w_X3_dated at hw
  refine r_aload_n C rfl 0 rfl dX3_dated_0 (r_aload_n C rfl 0 rfl dX3_dated_1 ?_)
  refine r_gfR (k := 1) C kX3 (by decide) (Or.inl q2156) (Or.inl rfl) dX3_dated_2 hw (fun v15 hw => ?_)
  refine r_iload_n C rfl 1 rfl dX3_dated_5 ?_
  obtain ⟨y16, rfl, hw_y16⟩ := hw
  have hw := hw_y16
  refine r_callS (rest := [.ref a0]) (As := [.ref y16, .int i1]) C sg_X3_hasSeal q2304 q2305 q90 q2306 rfl (Nat.le_of_ble_eq_true rfl) dX3_dated_6 rfl (Nat.le_refl _) (Nat.le_refl _) (c_X3_hasSeal G l y16 i1 h _ hw) (k_Z (fun r17 h18 hw => ?_))
  refine r_if_ne_b (tgt := 16) C (by decide) dX3_dated_9 (fun hc19 => ?_) (fun hc19 => ?_)
  · have hw := hw.1 hc19
    refine r_iload_n C rfl 2 rfl dX3_dated_16 (r_i2l C dX3_dated_17 (r_lconst (v := (0 : Int64)) C (by decide) dX3_dated_18 (r_ldc2 (v := (3 : Int64)) C q2434 dX3_dated_19 ?_)))
    refine r_callS (rest := [.ref a0]) (As := [.long i2.toInt64, .long (0 : Int64), .long (3 : Int64)]) C sg_X3_in q2219 q2220 q90 q2221 rfl (Nat.le_of_ble_eq_true rfl) dX3_dated_22 rfl (Nat.le_refl _) (Nat.le_refl _) (c_X3_in G l i2.toInt64 (0 : Int64) (3 : Int64) h18 _ hw) (k_Z (fun r20 h21 hw => ?_))
    have hJ : V h21 0 0 33 [(0, .ref a0), (1, .int i1), (2, .int i2)] [.int (if r20 = true then (0 : Int32) else (2 : Int32)), .ref a0] := by
      exact r_sub C [0, 1, 2] rfl (b_X3_dated_33 C _ _ _ _ _ _ hw)
    refine r_if_ne_b (tgt := 32) C (by decide) dX3_dated_25 (fun hc22 => ?_) (fun hc22 => ?_)
    · have hJ23 := hJ
      try simp only [if_pos hc22] at hJ23
      refine r_iconst (v := (0 : Int32)) C (by decide) dX3_dated_32 ?_
      exact r_sub C [0, 1, 2] rfl hJ23
    · have hJ23 := hJ
      try simp only [if_neg (show ¬ r20 = true from by rw [hc22]; decide)] at hJ23
      refine r_iconst (v := (2 : Int32)) C (by decide) dX3_dated_28 (r_goto (tgt := 33) C (by decide) dX3_dated_29 ?_)
      exact r_sub C [0, 1, 2] rfl hJ23
  · have hw := hw.2 hc19
    refine r_iconst (v := (1 : Int32)) C (by decide) dX3_dated_12 (r_goto (tgt := 33) C (by decide) dX3_dated_13 ?_)
    exact r_sub C [0, 1, 2] rfl (b_X3_dated_33 C _ _ _ _ _ _ hw)
def w_X3_can (a0 : Nat) (i1 : Int32) (i2 : Int32) (h : Hp) (Q : Bool → Hp → Prop) : Prop :=
  gfR h a0 2 1 (fun v1 => nn v1 (fun y2 => w_X3_lowOf y2 i1 h (fun r3 h4 => gfR h4 a0 2 1 (fun v5 => nn v5 (fun y6 => w_X3_highOf y6 i1 h4 (fun r7 h8 => w_X3_in i2.toInt64 r3.toInt64 r7.toInt64 h8 (fun r9 h10 => (r9 = false → Q false h10) ∧ (r9 = true → gfR h10 a0 2 1 (fun v12 => gfR h10 a0 2 1 (fun v13 => nn v13 (fun y14 => w_X3_maskOf y14 i1 h10 (fun r15 h16 => nn v12 (fun y17 => w_X3_years y17 i2 i2 r15 (2 : Int32) h16 (fun r18 h19 => Q (if ¬ r18 = (1 : Int32) then false else true) h19))))))))))))))
theorem sg_X3_can : ySg yX3_can 2 = true := by decide +kernel
theorem c_X3_can (G : gT) (l : Launch) (a0 : Nat) (i1 : Int32) (i2 : Int32) (h : Hp) (Q : Bool → Hp → Prop) (hw : w_X3_can a0 i1 i2 h Q) : Ct G l yX3_can (ws_ yX3_can cX3_can 3 (some .boolean)) 3 64 0 0 [.ref a0, .int i1, .int i2] h (pZ Q) := by
  refine Ct.of (own := RX3) false (by decide +kernel) rfl (show (_ : Nat) ≤ _ from Nat.le_of_ble_eq_true rfl) (fun z => by cases z) (fun V C => ?_)
  show V h 0 0 0 [(0, .ref a0), (1, .int i1), (2, .int i2)] []
  unfold w_X3_can at hw
  refine r_iload_n C rfl 2 rfl dX3_can_0 (r_i2l C dX3_can_1 (r_aload_n C rfl 0 rfl dX3_can_2 ?_))
  refine r_gfR (k := 1) C kX3 (by decide) (Or.inl q2156) (Or.inl rfl) dX3_can_3 hw (fun v1 hw => ?_)
  refine r_iload_n C rfl 1 rfl dX3_can_6 ?_
  obtain ⟨y2, rfl, hw_y2⟩ := hw
  have hw := hw_y2
  refine r_callS (rest := [.long i2.toInt64]) (As := [.ref y2, .int i1]) C sg_X3_lowOf q2361 q2362 q90 q2363 rfl (Nat.le_of_ble_eq_true rfl) dX3_can_7 rfl (Nat.le_refl _) (Nat.le_refl _) (c_X3_lowOf G l y2 i1 h _ hw) (k_I (fun r3 h4 hw => ?_))
  refine r_i2l C dX3_can_10 (r_aload_n C rfl 0 rfl dX3_can_11 ?_)
  refine r_gfR (k := 1) C kX3 (by decide) (Or.inl q2156) (Or.inl rfl) dX3_can_12 hw (fun v5 hw => ?_)
  refine r_iload_n C rfl 1 rfl dX3_can_15 ?_
  obtain ⟨y6, rfl, hw_y6⟩ := hw
  have hw := hw_y6
  refine r_callS (rest := [.long r3.toInt64, .long i2.toInt64]) (As := [.ref y6, .int i1]) C sg_X3_highOf q2367 q2368 q90 q2369 rfl (Nat.le_of_ble_eq_true rfl) dX3_can_16 rfl (Nat.le_refl _) (Nat.le_refl _) (c_X3_highOf G l y6 i1 h4 _ hw) (k_I (fun r7 h8 hw => ?_))
  refine r_i2l C dX3_can_19 ?_
  refine r_callS (rest := []) (As := [.long i2.toInt64, .long r3.toInt64, .long r7.toInt64]) C sg_X3_in q2219 q2220 q90 q2221 rfl (Nat.le_of_ble_eq_true rfl) dX3_can_20 rfl (Nat.le_refl _) (Nat.le_refl _) (c_X3_in G l i2.toInt64 r3.toInt64 r7.toInt64 h8 _ hw) (k_Z (fun r9 h10 hw => ?_))
  refine r_if_eq_b (tgt := 52) C (by decide) dX3_can_23 (fun hc11 => ?_) (fun hc11 => ?_)
  · have hw := hw.1 hc11
    refine r_iconst (v := (0 : Int32)) C (by decide) dX3_can_52 ?_
    exact r_zreturn (x := false) C dX3_can_53 (Nat.le_refl _) (Nat.le_refl _) ⟨_, rfl, hw⟩
  · have hw := hw.2 hc11
    refine r_aload_n C rfl 0 rfl dX3_can_26 ?_
    refine r_gfR (k := 1) C kX3 (by decide) (Or.inl q2156) (Or.inl rfl) dX3_can_27 hw (fun v12 hw => ?_)
    refine r_iload_n C rfl 2 rfl dX3_can_30 (r_iload_n C rfl 2 rfl dX3_can_31 (r_aload_n C rfl 0 rfl dX3_can_32 ?_))
    refine r_gfR (k := 1) C kX3 (by decide) (Or.inl q2156) (Or.inl rfl) dX3_can_33 hw (fun v13 hw => ?_)
    refine r_iload_n C rfl 1 rfl dX3_can_36 ?_
    obtain ⟨y14, rfl, hw_y14⟩ := hw
    have hw := hw_y14
    refine r_callS (rest := [.int i2, .int i2, va_rf v12]) (As := [.ref y14, .int i1]) C sg_X3_maskOf q2349 q2350 q90 q2351 rfl (by rcases v12 with _ | _ <;> exact Nat.le_of_ble_eq_true rfl) dX3_can_37 rfl (Nat.le_refl _) (Nat.le_refl _) (c_X3_maskOf G l y14 i1 h10 _ hw) (k_I (fun r15 h16 hw => ?_))
    refine r_iconst (v := (2 : Int32)) C (by decide) dX3_can_40 ?_
    obtain ⟨y17, rfl, hw_y17⟩ := hw
    have hw := hw_y17
    refine r_callS (rest := []) (As := [.ref y17, .int i2, .int i2, .int r15, .int (2 : Int32)]) C sg_X3_years q2352 q2353 q90 q2354 rfl (Nat.le_of_ble_eq_true rfl) dX3_can_41 rfl (Nat.le_refl _) (Nat.le_refl _) (c_X3_years G l y17 i2 i2 r15 (2 : Int32) h16 _ hw) (k_I (fun r18 h19 hw => ?_))
    refine r_iconst (v := (1 : Int32)) C (by decide) dX3_can_44 ?_
    have hJ : V h19 0 0 53 [] [.int (bI (if ¬ r18 = (1 : Int32) then false else true))] := by
      exact r_zreturn (x := (if ¬ r18 = (1 : Int32) then false else true)) C dX3_can_53 (Nat.le_refl _) (Nat.le_refl _) ⟨_, rfl, hw⟩
    refine r_icmp_ne (tgt := 52) C (by decide) dX3_can_45 (fun hc20 => ?_) (fun hc20 => ?_)
    · have hJ21 := hJ
      try simp only [if_pos hc20] at hJ21
      refine r_iconst (v := (0 : Int32)) C (by decide) dX3_can_52 ?_
      exact r_sub C [] rfl hJ21
    · have hJ21 := hJ
      try simp only [if_neg (show ¬ ¬ r18 = (1 : Int32) from fun z => z hc20)] at hJ21
      refine r_iconst (v := (1 : Int32)) C (by decide) dX3_can_48 (r_goto (tgt := 53) C (by decide) dX3_can_49 ?_)
      exact r_sub C [] rfl hJ21
def w_X3_isYear (i0 : Int32) (h : Hp) (Q : Bool → Hp → Prop) : Prop :=
  w_X3_in i0.toInt64 (1000 : Int64) (1999 : Int64) h (fun r1 h2 => Q r1 h2)
theorem sg_X3_isYear : ySg yX3_isYear 1 = true := by decide +kernel
theorem c_X3_isYear (G : gT) (l : Launch) (i0 : Int32) (h : Hp) (Q : Bool → Hp → Prop) (hw : w_X3_isYear i0 h Q) : Ct G l yX3_isYear (ws_ yX3_isYear cX3_isYear 1 (some .boolean)) 2 37 0 0 [.int i0] h (pZ Q) := by
  refine Ct.of (own := RX3) false (by decide +kernel) rfl (show (_ : Nat) ≤ _ from Nat.le_of_ble_eq_true rfl) (fun z => by cases z) (fun V C => ?_)
  show V h 0 0 0 [(0, .int i0)] []
  unfold w_X3_isYear at hw
  refine r_iload_n C rfl 0 rfl dX3_isYear_0 (r_i2l C dX3_isYear_1 (r_ldc2 (v := (1000 : Int64)) C q2442 dX3_isYear_2 (r_ldc2 (v := (1999 : Int64)) C q2443 dX3_isYear_5 ?_)))
  refine r_callS (rest := []) (As := [.long i0.toInt64, .long (1000 : Int64), .long (1999 : Int64)]) C sg_X3_in q2219 q2220 q90 q2221 rfl (Nat.le_of_ble_eq_true rfl) dX3_isYear_8 rfl (Nat.le_refl _) (Nat.le_refl _) (c_X3_in G l i0.toInt64 (1000 : Int64) (1999 : Int64) h _ hw) (k_Z (fun r1 h2 hw => ?_))
  exact r_zreturn (x := r1) C dX3_isYear_11 (Nat.le_refl _) (Nat.le_refl _) ⟨_, rfl, hw⟩
def B_X3_isPossible_28 (Q : Bool → Hp → Prop) (h : Hp) (x0 : Nat) (x1 : Int32) (x2 : Int32) (s0 : Nat) (s1 : Int32) : Prop :=
  hasC h s0 2 ∧ (w_X3_refused s0 s1 h (fun r2 h3 => (r2 = false → hasC h3 x0 2 ∧ (w_X3_can x0 x1 x2 h3 (fun r6 h7 => Q r6 h7))) ∧ (r2 = true → Q false h3)))
def w_X3_isPossible (a0 : Nat) (i1 : Int32) (i2 : Int32) (h : Hp) (Q : Bool → Hp → Prop) : Prop :=
  gfR h a0 2 1 (fun v8 => nn v8 (fun y9 => w_X3_hasSeal y9 i1 h (fun r10 h11 => (r10 = true → w_X3_isYear i2 h11 (fun r13 h14 => B_X3_isPossible_28 Q h14 a0 i1 i2 a0 (if r13 = true then (0 : Int32) else (2 : Int32)))) ∧ (r10 = false → B_X3_isPossible_28 Q h11 a0 i1 i2 a0 (1 : Int32)))))
theorem b_X3_isPossible_28 {G : gT} {l : Launch} {V : Hp → Nat → Nat → Nat → List (Nat × Value) → List Value → Prop} {Q : Bool → Hp → Prop} (C : Cx G l V cX3_isPossible 3 RX3 4 86 0 0 (pZ Q) none (some .boolean) [] false) (h : Hp) (x0 : Nat) (x1 : Int32) (x2 : Int32) (s0 : Nat) (s1 : Int32) (hw : B_X3_isPossible_28 Q h x0 x1 x2 s0 s1) : V h 0 0 28 [(0, .ref x0), (1, .int x1), (2, .int x2)] [.int s1, .ref s0] := by
  unfold B_X3_isPossible_28 at hw
  obtain ⟨hq1, hw⟩ := hw
  refine r_callV (ci := 2) (rest := []) (As := [.int s1]) C sg_X3_refused rfl rfl q2222 q2224 qs38 q90 q2225 rfl (Nat.le_of_ble_eq_true rfl) dX3_isPossible_28 rfl hq1 (Nat.le_refl _) (Nat.le_refl _) (c_X3_refused G l s0 s1 h _ hw) (k_Z (fun r2 h3 hw => ?_))
  refine r_if_eq_b (tgt := 36) C (by decide) dX3_isPossible_31 (fun hc4 => ?_) (fun hc4 => ?_)
  · have hw := hw.1 hc4
    refine r_aload_n C rfl 0 rfl dX3_isPossible_36 (r_iload_n C rfl 1 rfl dX3_isPossible_37 (r_iload_n C rfl 2 rfl dX3_isPossible_38 ?_))
    obtain ⟨hq5, hw⟩ := hw
    refine r_callV (ci := 2) (rest := []) (As := [.int x1, .int x2]) C sg_X3_can rfl rfl q2444 q2446 qs63 q90 q2447 rfl (Nat.le_of_ble_eq_true rfl) dX3_isPossible_39 rfl hq5 (Nat.le_refl _) (Nat.le_refl _) (c_X3_can G l x0 x1 x2 h3 _ hw) (k_Z (fun r6 h7 hw => ?_))
    exact r_zreturn (x := r6) C dX3_isPossible_42 (Nat.le_refl _) (Nat.le_refl _) ⟨_, rfl, hw⟩
  · have hw := hw.2 hc4
    refine r_iconst (v := (0 : Int32)) C (by decide) dX3_isPossible_34 ?_
    exact r_zreturn (x := false) C dX3_isPossible_35 (Nat.le_refl _) (Nat.le_refl _) ⟨_, rfl, hw⟩
theorem sg_X3_isPossible : ySg yX3_isPossible 2 = true := by decide +kernel
theorem c_X3_isPossible (G : gT) (l : Launch) (a0 : Nat) (i1 : Int32) (i2 : Int32) (h : Hp) (Q : Bool → Hp → Prop) (hw : w_X3_isPossible a0 i1 i2 h Q) : Ct G l yX3_isPossible (ws_ yX3_isPossible cX3_isPossible 3 (some .boolean)) 4 86 0 0 [.ref a0, .int i1, .int i2] h (pZ Q) := by
  refine Ct.of (own := RX3) false (by decide +kernel) rfl (show (_ : Nat) ≤ _ from Nat.le_of_ble_eq_true rfl) (fun z => by cases z) (fun V C => ?_)
  show V h 0 0 0 [(0, .ref a0), (1, .int i1), (2, .int i2)] []
  unfold w_X3_isPossible at hw
  refine r_aload_n C rfl 0 rfl dX3_isPossible_0 (r_aload_n C rfl 0 rfl dX3_isPossible_1 ?_)
  refine r_gfR (k := 1) C kX3 (by decide) (Or.inl q2156) (Or.inl rfl) dX3_isPossible_2 hw (fun v8 hw => ?_)
  refine r_iload_n C rfl 1 rfl dX3_isPossible_5 ?_
  obtain ⟨y9, rfl, hw_y9⟩ := hw
  have hw := hw_y9
  refine r_callS (rest := [.ref a0]) (As := [.ref y9, .int i1]) C sg_X3_hasSeal q2304 q2305 q90 q2306 rfl (Nat.le_of_ble_eq_true rfl) dX3_isPossible_6 rfl (Nat.le_refl _) (Nat.le_refl _) (c_X3_hasSeal G l y9 i1 h _ hw) (k_Z (fun r10 h11 hw => ?_))
  refine r_if_ne_b (tgt := 16) C (by decide) dX3_isPossible_9 (fun hc12 => ?_) (fun hc12 => ?_)
  · have hw := hw.1 hc12
    refine r_iload_n C rfl 2 rfl dX3_isPossible_16 ?_
    refine r_callS (rest := [.ref a0]) (As := [.int i2]) C sg_X3_isYear q2439 q2440 q90 q2441 rfl (Nat.le_of_ble_eq_true rfl) dX3_isPossible_17 rfl (Nat.le_refl _) (Nat.le_refl _) (c_X3_isYear G l i2 h11 _ hw) (k_Z (fun r13 h14 hw => ?_))
    have hJ : V h14 0 0 28 [(0, .ref a0), (1, .int i1), (2, .int i2)] [.int (if r13 = true then (0 : Int32) else (2 : Int32)), .ref a0] := by
      exact r_sub C [0, 1, 2] rfl (b_X3_isPossible_28 C _ _ _ _ _ _ hw)
    refine r_if_ne_b (tgt := 27) C (by decide) dX3_isPossible_20 (fun hc15 => ?_) (fun hc15 => ?_)
    · have hJ16 := hJ
      try simp only [if_pos hc15] at hJ16
      refine r_iconst (v := (0 : Int32)) C (by decide) dX3_isPossible_27 ?_
      exact r_sub C [0, 1, 2] rfl hJ16
    · have hJ16 := hJ
      try simp only [if_neg (show ¬ r13 = true from by rw [hc15]; decide)] at hJ16
      refine r_iconst (v := (2 : Int32)) C (by decide) dX3_isPossible_23 (r_goto (tgt := 28) C (by decide) dX3_isPossible_24 ?_)
      exact r_sub C [0, 1, 2] rfl hJ16
  · have hw := hw.2 hc12
    refine r_iconst (v := (1 : Int32)) C (by decide) dX3_isPossible_12 (r_goto (tgt := 28) C (by decide) dX3_isPossible_13 ?_)
    exact r_sub C [0, 1, 2] rfl (b_X3_isPossible_28 C _ _ _ _ _ _ hw)
def w_X3_isCharter (i0 : Int32) (h : Hp) (Q : Bool → Hp → Prop) : Prop :=
  w_X3_in i0.toInt64 (0 : Int64) (5 : Int64) h (fun r1 h2 => Q r1 h2)
theorem sg_X3_isCharter : ySg yX3_isCharter 1 = true := by decide +kernel
theorem c_X3_isCharter (G : gT) (l : Launch) (i0 : Int32) (h : Hp) (Q : Bool → Hp → Prop) (hw : w_X3_isCharter i0 h Q) : Ct G l yX3_isCharter (ws_ yX3_isCharter cX3_isCharter 1 (some .boolean)) 2 37 0 0 [.int i0] h (pZ Q) := by
  refine Ct.of (own := RX3) false (by decide +kernel) rfl (show (_ : Nat) ≤ _ from Nat.le_of_ble_eq_true rfl) (fun z => by cases z) (fun V C => ?_)
  show V h 0 0 0 [(0, .int i0)] []
  unfold w_X3_isCharter at hw
  refine r_iload_n C rfl 0 rfl dX3_isCharter_0 (r_i2l C dX3_isCharter_1 (r_lconst (v := (0 : Int64)) C (by decide) dX3_isCharter_2 (r_ldc2 (v := (5 : Int64)) C q2416 dX3_isCharter_3 ?_)))
  refine r_callS (rest := []) (As := [.long i0.toInt64, .long (0 : Int64), .long (5 : Int64)]) C sg_X3_in q2219 q2220 q90 q2221 rfl (Nat.le_of_ble_eq_true rfl) dX3_isCharter_6 rfl (Nat.le_refl _) (Nat.le_refl _) (c_X3_in G l i0.toInt64 (0 : Int64) (5 : Int64) h _ hw) (k_Z (fun r1 h2 hw => ?_))
  exact r_zreturn (x := r1) C dX3_isCharter_9 (Nat.le_refl _) (Nat.le_refl _) ⟨_, rfl, hw⟩
def B_X3_charter_29 (Q : Int32 → Hp → Prop) (h : Hp) (x0 : Nat) (x1 : Int32) (x2 : Int32) (s0 : Nat) (s1 : Int32) : Prop :=
  hasC h s0 2 ∧ (w_X3_refused s0 s1 h (fun r2 h3 => (r2 = false → (¬ x2 = 0 → (¬ x2 = (4 : Int32) → gfR h3 x0 2 1 (fun v7 => nn v7 (fun y8 => hasC h3 x0 2 ∧ (w_X3_ofCharter x0 y8 x1 (-1 : Int32) (x2 - (1 : Int32)) h3 (fun r10 h11 => Q r10 h11))))) ∧ (x2 = (4 : Int32) → hasC h3 x0 2 ∧ (w_X3_fakesOn x0 x1 h3 (fun r13 h14 => Q r13 h14)))) ∧ (x2 = 0 → gfR h3 x0 2 1 (fun v15 => nn v15 (fun y16 => w_X3_onCharter y16 x1 h3 (fun r17 h18 => Q r17 h18))))) ∧ (r2 = true → Q (0 : Int32) h3)))
def w_X3_charter (a0 : Nat) (i1 : Int32) (i2 : Int32) (h : Hp) (Q : Int32 → Hp → Prop) : Prop :=
  w_X3_isCharter i1 h (fun r19 h20 => (r19 = true → w_X3_in i2.toInt64 (0 : Int64) (4 : Int64) h20 (fun r22 h23 => B_X3_charter_29 Q h23 a0 i1 i2 a0 (if r22 = true then (0 : Int32) else (2 : Int32)))) ∧ (r19 = false → B_X3_charter_29 Q h20 a0 i1 i2 a0 (1 : Int32)))
theorem b_X3_charter_29 {G : gT} {l : Launch} {V : Hp → Nat → Nat → Nat → List (Nat × Value) → List Value → Prop} {Q : Int32 → Hp → Prop} (C : Cx G l V cX3_charter 3 RX3 9 201 0 0 (pI Q) none (some .int) [] false) (h : Hp) (x0 : Nat) (x1 : Int32) (x2 : Int32) (s0 : Nat) (s1 : Int32) (hw : B_X3_charter_29 Q h x0 x1 x2 s0 s1) : V h 0 0 29 [(0, .ref x0), (1, .int x1), (2, .int x2)] [.int s1, .ref s0] := by
  unfold B_X3_charter_29 at hw
  obtain ⟨hq1, hw⟩ := hw
  refine r_callV (ci := 2) (rest := []) (As := [.int s1]) C sg_X3_refused rfl rfl q2222 q2224 qs38 q90 q2225 rfl (Nat.le_of_ble_eq_true rfl) dX3_charter_29 rfl hq1 (Nat.le_refl _) (Nat.le_refl _) (c_X3_refused G l s0 s1 h _ hw) (k_Z (fun r2 h3 hw => ?_))
  refine r_if_eq_b (tgt := 37) C (by decide) dX3_charter_32 (fun hc4 => ?_) (fun hc4 => ?_)
  · have hw := hw.1 hc4
    refine r_iload_n C rfl 2 rfl dX3_charter_37 ?_
    refine r_if_ne (tgt := 52) C (by decide) dX3_charter_38 (fun hc5 => ?_) (fun hc5 => ?_)
    · have hw := hw.1 hc5
      refine r_iload_n C rfl 2 rfl dX3_charter_52 (r_iconst (v := (4 : Int32)) C (by decide) dX3_charter_53 ?_)
      refine r_icmp_ne (tgt := 65) C (by decide) dX3_charter_54 (fun hc6 => ?_) (fun hc6 => ?_)
      · have hw := hw.1 hc6
        refine r_aload_n C rfl 0 rfl dX3_charter_65 (r_aload_n C rfl 0 rfl dX3_charter_66 ?_)
        refine r_gfR (k := 1) C kX3 (by decide) (Or.inl q2156) (Or.inl rfl) dX3_charter_67 hw (fun v7 hw => ?_)
        refine r_iload_n C rfl 1 rfl dX3_charter_70 (r_iconst (v := (-1 : Int32)) C (by decide) dX3_charter_71 (r_iload_n C rfl 2 rfl dX3_charter_72 (r_iconst (v := (1 : Int32)) C (by decide) dX3_charter_73 (r_isub C dX3_charter_74 ?_))))
        obtain ⟨y8, rfl, hw_y8⟩ := hw
        have hw := hw_y8
        obtain ⟨hq9, hw⟩ := hw
        refine r_callV (ci := 2) (rest := []) (As := [.ref y8, .int x1, .int (-1 : Int32), .int (x2 - (1 : Int32))]) C sg_X3_ofCharter rfl rfl q2370 q2372 qs55 q90 q2373 rfl (Nat.le_of_ble_eq_true rfl) dX3_charter_75 rfl hq9 (Nat.le_refl _) (Nat.le_refl _) (c_X3_ofCharter G l x0 y8 x1 (-1 : Int32) (x2 - (1 : Int32)) h3 _ hw) (k_I (fun r10 h11 hw => ?_))
        exact r_ireturn C dX3_charter_78 (Nat.le_refl _) (Nat.le_refl _) ⟨_, rfl, hw⟩
      · have hw := hw.2 hc6
        refine r_aload_n C rfl 0 rfl dX3_charter_57 (r_iload_n C rfl 1 rfl dX3_charter_58 ?_)
        obtain ⟨hq12, hw⟩ := hw
        refine r_callV (ci := 2) (rest := []) (As := [.int x1]) C sg_X3_fakesOn rfl rfl q2382 q2384 qs58 q90 q2385 rfl (Nat.le_of_ble_eq_true rfl) dX3_charter_59 rfl hq12 (Nat.le_refl _) (Nat.le_refl _) (c_X3_fakesOn G l x0 x1 h3 _ hw) (k_I (fun r13 h14 hw => ?_))
        refine r_goto (tgt := 78) C (by decide) dX3_charter_62 ?_
        exact r_ireturn C dX3_charter_78 (Nat.le_refl _) (Nat.le_refl _) ⟨_, rfl, hw⟩
    · have hw := hw.2 hc5
      refine r_aload_n C rfl 0 rfl dX3_charter_41 ?_
      refine r_gfR (k := 1) C kX3 (by decide) (Or.inl q2156) (Or.inl rfl) dX3_charter_42 hw (fun v15 hw => ?_)
      refine r_iload_n C rfl 1 rfl dX3_charter_45 ?_
      obtain ⟨y16, rfl, hw_y16⟩ := hw
      have hw := hw_y16
      refine r_callS (rest := []) (As := [.ref y16, .int x1]) C sg_X3_onCharter q2310 q2311 q90 q2312 rfl (Nat.le_of_ble_eq_true rfl) dX3_charter_46 rfl (Nat.le_refl _) (Nat.le_refl _) (c_X3_onCharter G l y16 x1 h3 _ hw) (k_I (fun r17 h18 hw => ?_))
      refine r_goto (tgt := 78) C (by decide) dX3_charter_49 ?_
      exact r_ireturn C dX3_charter_78 (Nat.le_refl _) (Nat.le_refl _) ⟨_, rfl, hw⟩
  · have hw := hw.2 hc4
    refine r_iconst (v := (0 : Int32)) C (by decide) dX3_charter_35 ?_
    exact r_ireturn C dX3_charter_36 (Nat.le_refl _) (Nat.le_refl _) ⟨_, rfl, hw⟩
theorem sg_X3_charter : ySg yX3_charter 2 = true := by decide +kernel
theorem c_X3_charter (G : gT) (l : Launch) (a0 : Nat) (i1 : Int32) (i2 : Int32) (h : Hp) (Q : Int32 → Hp → Prop) (hw : w_X3_charter a0 i1 i2 h Q) : Ct G l yX3_charter (ws_ yX3_charter cX3_charter 3 (some .int)) 9 201 0 0 [.ref a0, .int i1, .int i2] h (pI Q) := by
  refine Ct.of (own := RX3) false (by decide +kernel) rfl (show (_ : Nat) ≤ _ from Nat.le_of_ble_eq_true rfl) (fun z => by cases z) (fun V C => ?_)
  show V h 0 0 0 [(0, .ref a0), (1, .int i1), (2, .int i2)] []
  unfold w_X3_charter at hw
  refine r_aload_n C rfl 0 rfl dX3_charter_0 (r_iload_n C rfl 1 rfl dX3_charter_1 ?_)
  refine r_callS (rest := [.ref a0]) (As := [.int i1]) C sg_X3_isCharter q2452 q2453 q90 q2454 rfl (Nat.le_of_ble_eq_true rfl) dX3_charter_2 rfl (Nat.le_refl _) (Nat.le_refl _) (c_X3_isCharter G l i1 h _ hw) (k_Z (fun r19 h20 hw => ?_))
  refine r_if_ne_b (tgt := 12) C (by decide) dX3_charter_5 (fun hc21 => ?_) (fun hc21 => ?_)
  · have hw := hw.1 hc21
    refine r_iload_n C rfl 2 rfl dX3_charter_12 (r_i2l C dX3_charter_13 (r_lconst (v := (0 : Int64)) C (by decide) dX3_charter_14 (r_ldc2 (v := (4 : Int64)) C q2455 dX3_charter_15 ?_)))
    refine r_callS (rest := [.ref a0]) (As := [.long i2.toInt64, .long (0 : Int64), .long (4 : Int64)]) C sg_X3_in q2219 q2220 q90 q2221 rfl (Nat.le_of_ble_eq_true rfl) dX3_charter_18 rfl (Nat.le_refl _) (Nat.le_refl _) (c_X3_in G l i2.toInt64 (0 : Int64) (4 : Int64) h20 _ hw) (k_Z (fun r22 h23 hw => ?_))
    have hJ : V h23 0 0 29 [(0, .ref a0), (1, .int i1), (2, .int i2)] [.int (if r22 = true then (0 : Int32) else (2 : Int32)), .ref a0] := by
      exact r_sub C [0, 1, 2] rfl (b_X3_charter_29 C _ _ _ _ _ _ hw)
    refine r_if_ne_b (tgt := 28) C (by decide) dX3_charter_21 (fun hc24 => ?_) (fun hc24 => ?_)
    · have hJ25 := hJ
      try simp only [if_pos hc24] at hJ25
      refine r_iconst (v := (0 : Int32)) C (by decide) dX3_charter_28 ?_
      exact r_sub C [0, 1, 2] rfl hJ25
    · have hJ25 := hJ
      try simp only [if_neg (show ¬ r22 = true from by rw [hc24]; decide)] at hJ25
      refine r_iconst (v := (2 : Int32)) C (by decide) dX3_charter_24 (r_goto (tgt := 29) C (by decide) dX3_charter_25 ?_)
      exact r_sub C [0, 1, 2] rfl hJ25
  · have hw := hw.2 hc21
    refine r_iconst (v := (1 : Int32)) C (by decide) dX3_charter_8 (r_goto (tgt := 29) C (by decide) dX3_charter_9 ?_)
    exact r_sub C [0, 1, 2] rfl (b_X3_charter_29 C _ _ _ _ _ _ hw)
def w_X3_isShelf (i0 : Int32) (h : Hp) (Q : Bool → Hp → Prop) : Prop :=
  w_X3_in i0.toInt64 (0 : Int64) (5 : Int64) h (fun r1 h2 => Q r1 h2)
theorem sg_X3_isShelf : ySg yX3_isShelf 1 = true := by decide +kernel
theorem c_X3_isShelf (G : gT) (l : Launch) (i0 : Int32) (h : Hp) (Q : Bool → Hp → Prop) (hw : w_X3_isShelf i0 h Q) : Ct G l yX3_isShelf (ws_ yX3_isShelf cX3_isShelf 1 (some .boolean)) 2 37 0 0 [.int i0] h (pZ Q) := by
  refine Ct.of (own := RX3) false (by decide +kernel) rfl (show (_ : Nat) ≤ _ from Nat.le_of_ble_eq_true rfl) (fun z => by cases z) (fun V C => ?_)
  show V h 0 0 0 [(0, .int i0)] []
  unfold w_X3_isShelf at hw
  refine r_iload_n C rfl 0 rfl dX3_isShelf_0 (r_i2l C dX3_isShelf_1 (r_lconst (v := (0 : Int64)) C (by decide) dX3_isShelf_2 (r_ldc2 (v := (5 : Int64)) C q2416 dX3_isShelf_3 ?_)))
  refine r_callS (rest := []) (As := [.long i0.toInt64, .long (0 : Int64), .long (5 : Int64)]) C sg_X3_in q2219 q2220 q90 q2221 rfl (Nat.le_of_ble_eq_true rfl) dX3_isShelf_6 rfl (Nat.le_refl _) (Nat.le_refl _) (c_X3_in G l i0.toInt64 (0 : Int64) (5 : Int64) h _ hw) (k_Z (fun r1 h2 hw => ?_))
  exact r_zreturn (x := r1) C dX3_isShelf_9 (Nat.le_refl _) (Nat.le_refl _) ⟨_, rfl, hw⟩
def w_X3_onShelf (a0 : Nat) (i1 : Int32) (i2 : Int32) (h : Hp) (Q : Int32 → Hp → Prop) : Prop :=
  w_X3_isShelf i1 h (fun r1 h2 => hasC h2 a0 2 ∧ (w_X3_refused a0 (if r1 = true then (if 0 ≤ i2 then (0 : Int32) else (2 : Int32)) else (1 : Int32)) h2 (fun r4 h5 => (r4 = false → gfR h5 a0 2 1 (fun v7 => nn v7 (fun y8 => rdI h5 y8 ((249 : Int32) + i1) (fun v9 => (v9 ≤ i2 → Q (-1 : Int32) h5) ∧ (¬ v9 ≤ i2 → gfR h5 a0 2 1 (fun v11 => nn v11 (fun y12 => rdI h5 y12 (((255 : Int32) + ((6 : Int32) * i1)) + i2) (fun v13 => Q v13 h5)))))))) ∧ (r4 = true → Q (0 : Int32) h5))))
theorem sg_X3_onShelf : ySg yX3_onShelf 2 = true := by decide +kernel
theorem c_X3_onShelf (G : gT) (l : Launch) (a0 : Nat) (i1 : Int32) (i2 : Int32) (h : Hp) (Q : Int32 → Hp → Prop) (hw : w_X3_onShelf a0 i1 i2 h Q) : Ct G l yX3_onShelf (ws_ yX3_onShelf cX3_onShelf 3 (some .int)) 3 57 0 0 [.ref a0, .int i1, .int i2] h (pI Q) := by
  refine Ct.of (own := RX3) false (by decide +kernel) rfl (show (_ : Nat) ≤ _ from Nat.le_of_ble_eq_true rfl) (fun z => by cases z) (fun V C => ?_)
  show V h 0 0 0 [(0, .ref a0), (1, .int i1), (2, .int i2)] []
  unfold w_X3_onShelf at hw
  refine r_aload_n C rfl 0 rfl dX3_onShelf_0 (r_iload_n C rfl 1 rfl dX3_onShelf_1 ?_)
  refine r_callS (rest := [.ref a0]) (As := [.int i1]) C sg_X3_isShelf q2460 q2461 q90 q2462 rfl (Nat.le_of_ble_eq_true rfl) dX3_onShelf_2 rfl (Nat.le_refl _) (Nat.le_refl _) (c_X3_isShelf G l i1 h _ hw) (k_Z (fun r1 h2 hw => ?_))
  have hJ : V h2 0 0 21 [(0, .ref a0), (1, .int i1), (2, .int i2)] [.int (if r1 = true then (if 0 ≤ i2 then (0 : Int32) else (2 : Int32)) else (1 : Int32)), .ref a0] := by
    obtain ⟨hq3, hw⟩ := hw
    refine r_callV (ci := 2) (rest := []) (As := [.int (if r1 = true then (if 0 ≤ i2 then (0 : Int32) else (2 : Int32)) else (1 : Int32))]) C sg_X3_refused rfl rfl q2222 q2224 qs38 q90 q2225 rfl (Nat.le_of_ble_eq_true rfl) dX3_onShelf_21 rfl hq3 (Nat.le_refl _) (Nat.le_refl _) (c_X3_refused G l a0 (if r1 = true then (if 0 ≤ i2 then (0 : Int32) else (2 : Int32)) else (1 : Int32)) h2 _ hw) (k_Z (fun r4 h5 hw => ?_))
    refine r_if_eq_b (tgt := 29) C (by decide) dX3_onShelf_24 (fun hc6 => ?_) (fun hc6 => ?_)
    · have hw := hw.1 hc6
      refine r_iload_n C rfl 2 rfl dX3_onShelf_29 (r_aload_n C rfl 0 rfl dX3_onShelf_30 ?_)
      refine r_gfR (k := 1) C kX3 (by decide) (Or.inl q2156) (Or.inl rfl) dX3_onShelf_31 hw (fun v7 hw => ?_)
      refine r_sipush (v := (249 : Int32)) C (by decide) dX3_onShelf_34 (r_iload_n C rfl 1 rfl dX3_onShelf_37 (r_iadd C dX3_onShelf_38 ?_))
      obtain ⟨y8, rfl, hw_y8⟩ := hw
      have hw := hw_y8
      refine r_iaload C dX3_onShelf_39 hw (fun v9 hw => ?_)
      refine r_icmp_ge (tgt := 61) C (by decide) dX3_onShelf_40 (fun hc10 => ?_) (fun hc10 => ?_)
      · have hw := hw.1 hc10
        refine r_iconst (v := (-1 : Int32)) C (by decide) dX3_onShelf_61 ?_
        exact r_ireturn C dX3_onShelf_62 (Nat.le_refl _) (Nat.le_refl _) ⟨_, rfl, hw⟩
      · have hw := hw.2 hc10
        refine r_aload_n C rfl 0 rfl dX3_onShelf_43 ?_
        refine r_gfR (k := 1) C kX3 (by decide) (Or.inl q2156) (Or.inl rfl) dX3_onShelf_44 hw (fun v11 hw => ?_)
        refine r_sipush (v := (255 : Int32)) C (by decide) dX3_onShelf_47 (r_bipush (v := (6 : Int32)) C (by decide) dX3_onShelf_50 (r_iload_n C rfl 1 rfl dX3_onShelf_52 (r_imul C dX3_onShelf_53 (r_iadd C dX3_onShelf_54 (r_iload_n C rfl 2 rfl dX3_onShelf_55 ?_)))))
        refine r_iadd C dX3_onShelf_56 ?_
        obtain ⟨y12, rfl, hw_y12⟩ := hw
        have hw := hw_y12
        refine r_iaload C dX3_onShelf_57 hw (fun v13 hw => ?_)
        refine r_goto (tgt := 62) C (by decide) dX3_onShelf_58 ?_
        exact r_ireturn C dX3_onShelf_62 (Nat.le_refl _) (Nat.le_refl _) ⟨_, rfl, hw⟩
    · have hw := hw.2 hc6
      refine r_iconst (v := (0 : Int32)) C (by decide) dX3_onShelf_27 ?_
      exact r_ireturn C dX3_onShelf_28 (Nat.le_refl _) (Nat.le_refl _) ⟨_, rfl, hw⟩
  refine r_if_ne_b (tgt := 12) C (by decide) dX3_onShelf_5 (fun hc14 => ?_) (fun hc14 => ?_)
  · have hJ15 := hJ
    try simp only [if_pos hc14] at hJ15
    refine r_iload_n C rfl 2 rfl dX3_onShelf_12 ?_
    refine r_if_ge (tgt := 20) C (by decide) dX3_onShelf_13 (fun hc16 => ?_) (fun hc16 => ?_)
    · have hJ17 := hJ15
      try simp only [if_pos hc16] at hJ17
      refine r_iconst (v := (0 : Int32)) C (by decide) dX3_onShelf_20 ?_
      exact r_sub C [0, 1, 2] rfl hJ17
    · have hJ17 := hJ15
      try simp only [if_neg hc16] at hJ17
      refine r_iconst (v := (2 : Int32)) C (by decide) dX3_onShelf_16 (r_goto (tgt := 21) C (by decide) dX3_onShelf_17 ?_)
      exact r_sub C [0, 1, 2] rfl hJ17
  · have hJ15 := hJ
    try simp only [if_neg (show ¬ r1 = true from by rw [hc14]; decide)] at hJ15
    refine r_iconst (v := (1 : Int32)) C (by decide) dX3_onShelf_8 (r_goto (tgt := 21) C (by decide) dX3_onShelf_9 ?_)
    exact r_sub C [0, 1, 2] rfl hJ15
def S_X3_remember_52 (Q : Hp → Prop) (LA52 : Hp → Nat → Int32 → Prop) (h : Hp) (x0 : Nat) (x1 : Int32) : Prop :=
  ((291 : Int32) ≤ x1 → gfI h x0 2 5 (fun v11 => pf h x0 2 5 (.int (v11 + (1 : Int32))) (fun h12 => Q h12))) ∧ (¬ (291 : Int32) ≤ x1 → gfR h x0 2 4 (fun v13 => gfI h x0 2 5 (fun v14 => gfR h x0 2 1 (fun v15 => nn v15 (fun y16 => rdI h y16 x1 (fun v17 => nn v13 (fun y19 => wrI h y19 (((291 : Int32) * v14) + x1) v17 (fun h18 => LA52 h18 x0 (x1 + (1 : Int32))))))))))
def B_X3_remember_52 (Q : Hp → Prop) : Nat → Hp → Nat → Int32 → Prop
  | 0, _, _, _ => False
  | k + 1, h, x0, x1 => S_X3_remember_52 Q (B_X3_remember_52 Q k) h x0 x1
def B_X3_remember_50 (Q : Hp → Prop) (h : Hp) (x0 : Nat) : Prop :=
  ∃ k9 : Nat, B_X3_remember_52 Q k9 h x0 (0 : Int32)
def S_X3_remember_11 (Q : Hp → Prop) (LA11 : Hp → Nat → Int32 → Prop) (h : Hp) (x0 : Nat) (x1 : Int32) : Prop :=
  ((3783 : Int32) ≤ x1 → gfI h x0 2 5 (fun v2 => pf h x0 2 5 (.int (v2 - (1 : Int32))) (fun h3 => B_X3_remember_50 Q h3 x0))) ∧ (¬ (3783 : Int32) ≤ x1 → gfR h x0 2 4 (fun v4 => gfR h x0 2 4 (fun v5 => nn v5 (fun y6 => rdI h y6 ((291 : Int32) + x1) (fun v7 => nn v4 (fun y9 => wrI h y9 x1 v7 (fun h8 => LA11 h8 x0 (x1 + (1 : Int32)))))))))
def B_X3_remember_11 (Q : Hp → Prop) : Nat → Hp → Nat → Int32 → Prop
  | 0, _, _, _ => False
  | k + 1, h, x0, x1 => S_X3_remember_11 Q (B_X3_remember_11 Q k) h x0 x1
def w_X3_remember (a0 : Nat) (h : Hp) (Q : Hp → Prop) : Prop :=
  gfI h a0 2 5 (fun v20 => (¬ v20 = (14 : Int32) → B_X3_remember_50 Q h a0) ∧ (v20 = (14 : Int32) → ∃ k9 : Nat, B_X3_remember_11 Q k9 h a0 (0 : Int32)))
theorem s_X3_remember_52 {G : gT} {l : Launch} {V : Hp → Nat → Nat → Nat → List (Nat × Value) → List Value → Prop} {Q : Hp → Prop} (C : Cx G l V cX3_remember 2 RX3 1 12 0 0 (pV Q) none (none) [] false) (LA52 : Hp → Nat → Int32 → Prop) (hLA52 : ∀ (h : Hp) (x0 : Nat) (x1 : Int32), LA52 h x0 x1 → V h 0 0 52 [(0, .ref x0), (1, .int x1)] []) (h : Hp) (x0 : Nat) (x1 : Int32) (hw : S_X3_remember_52 Q LA52 h x0 x1) : V h 0 0 52 [(0, .ref x0), (1, .int x1)] [] := by
  unfold S_X3_remember_52 at hw
  refine r_iload_n C rfl 1 rfl dX3_remember_52 (r_sipush (v := (291 : Int32)) C (by decide) dX3_remember_53 ?_)
  refine r_icmp_ge (tgt := 86) C (by decide) dX3_remember_56 (fun hc10 => ?_) (fun hc10 => ?_)
  · have hw := hw.1 hc10
    refine r_aload_n C rfl 0 rfl dX3_remember_86 (r_dup C rfl dX3_remember_87 ?_)
    refine r_gfI (k := 5) C kX3 (by decide) (Or.inl q2160) (Or.inl rfl) dX3_remember_88 hw (fun v11 hw => ?_)
    refine r_iconst (v := (1 : Int32)) C (by decide) dX3_remember_91 (r_iadd C dX3_remember_92 ?_)
    refine r_pf (k := 5) (v := .int (v11 + (1 : Int32))) C kX3 (by decide) (Or.inl q2160) (Or.inl rfl) (Or.inl rfl) rfl rfl dX3_remember_93 hw (fun h12 hw => ?_)
    exact r_return C dX3_remember_96 (Nat.le_refl _) (Nat.le_refl _) ⟨rfl, hw⟩
  · have hw := hw.2 hc10
    refine r_aload_n C rfl 0 rfl dX3_remember_59 ?_
    refine r_gfR (k := 4) C kX3 (by decide) (Or.inl q2159) (Or.inl rfl) dX3_remember_60 hw (fun v13 hw => ?_)
    refine r_sipush (v := (291 : Int32)) C (by decide) dX3_remember_63 (r_aload_n C rfl 0 rfl dX3_remember_66 ?_)
    refine r_gfI (k := 5) C kX3 (by decide) (Or.inl q2160) (Or.inl rfl) dX3_remember_67 hw (fun v14 hw => ?_)
    refine r_imul C dX3_remember_70 (r_iload_n C rfl 1 rfl dX3_remember_71 (r_iadd C dX3_remember_72 (r_aload_n C rfl 0 rfl dX3_remember_73 ?_)))
    refine r_gfR (k := 1) C kX3 (by decide) (Or.inl q2156) (Or.inl rfl) dX3_remember_74 hw (fun v15 hw => ?_)
    refine r_iload_n C rfl 1 rfl dX3_remember_77 ?_
    obtain ⟨y16, rfl, hw_y16⟩ := hw
    have hw := hw_y16
    refine r_iaload C dX3_remember_78 hw (fun v17 hw => ?_)
    obtain ⟨y19, rfl, hw_y19⟩ := hw
    have hw := hw_y19
    refine r_iastore C dX3_remember_79 hw (fun h18 hw => ?_)
    refine r_iinc (v := x1 + (1 : Int32)) (L' := [(1, .int (x1 + (1 : Int32))), (0, .ref x0)]) C (u := 1) rfl (by rfl) (by decide) rfl dX3_remember_80 (r_goto (tgt := 52) C (by decide) dX3_remember_83 ?_)
    exact r_sub C [1, 0] rfl (hLA52 _ _ _ hw)
theorem b_X3_remember_52 {G : gT} {l : Launch} {V : Hp → Nat → Nat → Nat → List (Nat × Value) → List Value → Prop} {Q : Hp → Prop} (C : Cx G l V cX3_remember 2 RX3 1 12 0 0 (pV Q) none (none) [] false) : ∀ (k : Nat) (h : Hp) (x0 : Nat) (x1 : Int32), B_X3_remember_52 Q k h x0 x1 → V h 0 0 52 [(0, .ref x0), (1, .int x1)] [] := by
  intro k
  induction k with
  | zero =>
    intro h x0 x1 hw
    exact hw.elim
  | succ k ih =>
    intro h x0 x1 hw
    exact s_X3_remember_52 C _ (fun h x0 x1 hw => ih h x0 x1 hw) h x0 x1 hw
theorem b_X3_remember_50 {G : gT} {l : Launch} {V : Hp → Nat → Nat → Nat → List (Nat × Value) → List Value → Prop} {Q : Hp → Prop} (C : Cx G l V cX3_remember 2 RX3 1 12 0 0 (pV Q) none (none) [] false) (h : Hp) (x0 : Nat) (hw : B_X3_remember_50 Q h x0) : V h 0 0 50 [(0, .ref x0)] [] := by
  unfold B_X3_remember_50 at hw
  refine r_iconst (v := (0 : Int32)) C (by decide) dX3_remember_50 (r_istore_n (L' := [(1, .int (0 : Int32)), (0, .ref x0)]) C rfl (by decide) rfl dX3_remember_51 ?_)
  obtain ⟨k9, hw⟩ := hw
  exact r_sub C [1, 0] rfl (b_X3_remember_52 C _ _ _ _ hw)
theorem s_X3_remember_11 {G : gT} {l : Launch} {V : Hp → Nat → Nat → Nat → List (Nat × Value) → List Value → Prop} {Q : Hp → Prop} (C : Cx G l V cX3_remember 2 RX3 1 12 0 0 (pV Q) none (none) [] false) (LA11 : Hp → Nat → Int32 → Prop) (hLA11 : ∀ (h : Hp) (x0 : Nat) (x1 : Int32), LA11 h x0 x1 → V h 0 0 11 [(0, .ref x0), (1, .int x1)] []) (h : Hp) (x0 : Nat) (x1 : Int32) (hw : S_X3_remember_11 Q LA11 h x0 x1) : V h 0 0 11 [(0, .ref x0), (1, .int x1)] [] := by
  unfold S_X3_remember_11 at hw
  refine r_iload_n C rfl 1 rfl dX3_remember_11 (r_sipush (v := (3783 : Int32)) C (by decide) dX3_remember_12 ?_)
  refine r_icmp_ge (tgt := 40) C (by decide) dX3_remember_15 (fun hc1 => ?_) (fun hc1 => ?_)
  · have hw := hw.1 hc1
    refine r_aload_n C rfl 0 rfl dX3_remember_40 (r_dup C rfl dX3_remember_41 ?_)
    refine r_gfI (k := 5) C kX3 (by decide) (Or.inl q2160) (Or.inl rfl) dX3_remember_42 hw (fun v2 hw => ?_)
    refine r_iconst (v := (1 : Int32)) C (by decide) dX3_remember_45 (r_isub C dX3_remember_46 ?_)
    refine r_pf (k := 5) (v := .int (v2 - (1 : Int32))) C kX3 (by decide) (Or.inl q2160) (Or.inl rfl) (Or.inl rfl) rfl rfl dX3_remember_47 hw (fun h3 hw => ?_)
    exact r_sub C [0] rfl (b_X3_remember_50 C _ _ hw)
  · have hw := hw.2 hc1
    refine r_aload_n C rfl 0 rfl dX3_remember_18 ?_
    refine r_gfR (k := 4) C kX3 (by decide) (Or.inl q2159) (Or.inl rfl) dX3_remember_19 hw (fun v4 hw => ?_)
    refine r_iload_n C rfl 1 rfl dX3_remember_22 (r_aload_n C rfl 0 rfl dX3_remember_23 ?_)
    refine r_gfR (k := 4) C kX3 (by decide) (Or.inl q2159) (Or.inl rfl) dX3_remember_24 hw (fun v5 hw => ?_)
    refine r_sipush (v := (291 : Int32)) C (by decide) dX3_remember_27 (r_iload_n C rfl 1 rfl dX3_remember_30 (r_iadd C dX3_remember_31 ?_))
    obtain ⟨y6, rfl, hw_y6⟩ := hw
    have hw := hw_y6
    refine r_iaload C dX3_remember_32 hw (fun v7 hw => ?_)
    obtain ⟨y9, rfl, hw_y9⟩ := hw
    have hw := hw_y9
    refine r_iastore C dX3_remember_33 hw (fun h8 hw => ?_)
    refine r_iinc (v := x1 + (1 : Int32)) (L' := [(1, .int (x1 + (1 : Int32))), (0, .ref x0)]) C (u := 1) rfl (by rfl) (by decide) rfl dX3_remember_34 (r_goto (tgt := 11) C (by decide) dX3_remember_37 ?_)
    exact r_sub C [1, 0] rfl (hLA11 _ _ _ hw)
theorem b_X3_remember_11 {G : gT} {l : Launch} {V : Hp → Nat → Nat → Nat → List (Nat × Value) → List Value → Prop} {Q : Hp → Prop} (C : Cx G l V cX3_remember 2 RX3 1 12 0 0 (pV Q) none (none) [] false) : ∀ (k : Nat) (h : Hp) (x0 : Nat) (x1 : Int32), B_X3_remember_11 Q k h x0 x1 → V h 0 0 11 [(0, .ref x0), (1, .int x1)] [] := by
  intro k
  induction k with
  | zero =>
    intro h x0 x1 hw
    exact hw.elim
  | succ k ih =>
    intro h x0 x1 hw
    exact s_X3_remember_11 C _ (fun h x0 x1 hw => ih h x0 x1 hw) h x0 x1 hw
theorem sg_X3_remember : ySg yX3_remember 0 = true := by decide +kernel
theorem c_X3_remember (G : gT) (l : Launch) (a0 : Nat) (h : Hp) (Q : Hp → Prop) (hw : w_X3_remember a0 h Q) : Ct G l yX3_remember (ws_ yX3_remember cX3_remember 2 (none)) 1 12 0 0 [.ref a0] h (pV Q) := by
  refine Ct.of (own := RX3) false (by decide +kernel) rfl (show (_ : Nat) ≤ _ from Nat.le_of_ble_eq_true rfl) (fun z => by cases z) (fun V C => ?_)
  show V h 0 0 0 [(0, .ref a0)] []
  unfold w_X3_remember at hw
  refine r_aload_n C rfl 0 rfl dX3_remember_0 ?_
  refine r_gfI (k := 5) C kX3 (by decide) (Or.inl q2160) (Or.inl rfl) dX3_remember_1 hw (fun v20 hw => ?_)
  refine r_bipush (v := (14 : Int32)) C (by decide) dX3_remember_4 ?_
  refine r_icmp_ne (tgt := 50) C (by decide) dX3_remember_6 (fun hc21 => ?_) (fun hc21 => ?_)
  · have hw := hw.1 hc21
    exact r_sub C [0] rfl (b_X3_remember_50 C _ _ hw)
  · have hw := hw.2 hc21
    refine r_iconst (v := (0 : Int32)) C (by decide) dX3_remember_9 (r_istore_n (L' := [(1, .int (0 : Int32)), (0, .ref a0)]) C rfl (by decide) rfl dX3_remember_10 ?_)
    obtain ⟨k9, hw⟩ := hw
    exact r_sub C [1, 0] rfl (b_X3_remember_11 C _ _ _ _ hw)
def B_X3_reign_40 (Q : Int32 → Hp → Prop) (h : Hp) (x0 : Nat) (x1 : Int32) (x2 : Int32) (s0 : Nat) (s1 : Int32) : Prop :=
  hasC h s0 2 ∧ (w_X3_refused s0 s1 h (fun r2 h3 => (r2 = false → hasC h3 x0 2 ∧ (w_X3_remember x0 h3 (fun h7 => gfR h7 x0 2 1 (fun v8 => nn v8 (fun y9 => w_X3_goReign y9 x1 x2 h7 (fun r10 h11 => Q r10 h11)))))) ∧ (r2 = true → Q (0 : Int32) h3)))
def B_X3_reign_20 (Q : Int32 → Hp → Prop) (h : Hp) (x0 : Nat) (x1 : Int32) (x2 : Int32) (s0 : Nat) : Prop :=
  B_X3_reign_40 Q h x0 x1 x2 s0 (1 : Int32)
def w_X3_reign (a0 : Nat) (i1 : Int32) (i2 : Int32) (h : Hp) (Q : Int32 → Hp → Prop) : Prop :=
  w_X3_isYear i1 h (fun r12 h13 => (r12 = false → B_X3_reign_20 Q h13 a0 i1 i2 a0) ∧ (r12 = true → w_X3_in i2.toInt64 (1 : Int64) (255 : Int64) h13 (fun r15 h16 => (r15 = true → gfR h16 a0 2 1 (fun v18 => nn v18 (fun y19 => w_X3_canReign y19 i1 h16 (fun r20 h21 => B_X3_reign_40 Q h21 a0 i1 i2 a0 (if r20 = true then (0 : Int32) else (2 : Int32)))))) ∧ (r15 = false → B_X3_reign_20 Q h16 a0 i1 i2 a0))))
theorem b_X3_reign_40 {G : gT} {l : Launch} {V : Hp → Nat → Nat → Nat → List (Nat × Value) → List Value → Prop} {Q : Int32 → Hp → Prop} (C : Cx G l V cX3_reign 3 RX3 3 57 0 0 (pI Q) none (some .int) [] false) (h : Hp) (x0 : Nat) (x1 : Int32) (x2 : Int32) (s0 : Nat) (s1 : Int32) (hw : B_X3_reign_40 Q h x0 x1 x2 s0 s1) : V h 0 0 40 [(0, .ref x0), (1, .int x1), (2, .int x2)] [.int s1, .ref s0] := by
  unfold B_X3_reign_40 at hw
  obtain ⟨hq1, hw⟩ := hw
  refine r_callV (ci := 2) (rest := []) (As := [.int s1]) C sg_X3_refused rfl rfl q2222 q2224 qs38 q90 q2225 rfl (Nat.le_of_ble_eq_true rfl) dX3_reign_40 rfl hq1 (Nat.le_refl _) (Nat.le_refl _) (c_X3_refused G l s0 s1 h _ hw) (k_Z (fun r2 h3 hw => ?_))
  refine r_if_eq_b (tgt := 48) C (by decide) dX3_reign_43 (fun hc4 => ?_) (fun hc4 => ?_)
  · have hw := hw.1 hc4
    refine r_aload_n C rfl 0 rfl dX3_reign_48 ?_
    obtain ⟨hq5, hw⟩ := hw
    refine r_callV (ci := 2) (rest := []) (As := []) C sg_X3_remember rfl rfl q2467 q2469 qs64 q90 q2470 rfl (Nat.le_of_ble_eq_true rfl) dX3_reign_49 rfl hq5 (Nat.le_refl _) (Nat.le_refl _) (c_X3_remember G l x0 h3 _ hw) (k_V (fun h7 hw => ?_))
    refine r_aload_n C rfl 0 rfl dX3_reign_52 ?_
    refine r_gfR (k := 1) C kX3 (by decide) (Or.inl q2156) (Or.inl rfl) dX3_reign_53 hw (fun v8 hw => ?_)
    refine r_iload_n C rfl 1 rfl dX3_reign_56 (r_iload_n C rfl 2 rfl dX3_reign_57 ?_)
    obtain ⟨y9, rfl, hw_y9⟩ := hw
    have hw := hw_y9
    refine r_callS (rest := []) (As := [.ref y9, .int x1, .int x2]) C sg_X3_goReign q2273 q2274 q90 q2275 rfl (Nat.le_of_ble_eq_true rfl) dX3_reign_58 rfl (Nat.le_refl _) (Nat.le_refl _) (c_X3_goReign G l y9 x1 x2 h7 _ hw) (k_I (fun r10 h11 hw => ?_))
    exact r_ireturn C dX3_reign_61 (Nat.le_refl _) (Nat.le_refl _) ⟨_, rfl, hw⟩
  · have hw := hw.2 hc4
    refine r_iconst (v := (0 : Int32)) C (by decide) dX3_reign_46 ?_
    exact r_ireturn C dX3_reign_47 (Nat.le_refl _) (Nat.le_refl _) ⟨_, rfl, hw⟩
theorem b_X3_reign_20 {G : gT} {l : Launch} {V : Hp → Nat → Nat → Nat → List (Nat × Value) → List Value → Prop} {Q : Int32 → Hp → Prop} (C : Cx G l V cX3_reign 3 RX3 3 57 0 0 (pI Q) none (some .int) [] false) (h : Hp) (x0 : Nat) (x1 : Int32) (x2 : Int32) (s0 : Nat) (hw : B_X3_reign_20 Q h x0 x1 x2 s0) : V h 0 0 20 [(0, .ref x0), (1, .int x1), (2, .int x2)] [.ref s0] := by
  unfold B_X3_reign_20 at hw
  refine r_iconst (v := (1 : Int32)) C (by decide) dX3_reign_20 (r_goto (tgt := 40) C (by decide) dX3_reign_21 ?_)
  exact r_sub C [0, 1, 2] rfl (b_X3_reign_40 C _ _ _ _ _ _ hw)
theorem sg_X3_reign : ySg yX3_reign 2 = true := by decide +kernel
theorem c_X3_reign (G : gT) (l : Launch) (a0 : Nat) (i1 : Int32) (i2 : Int32) (h : Hp) (Q : Int32 → Hp → Prop) (hw : w_X3_reign a0 i1 i2 h Q) : Ct G l yX3_reign (ws_ yX3_reign cX3_reign 3 (some .int)) 3 57 0 0 [.ref a0, .int i1, .int i2] h (pI Q) := by
  refine Ct.of (own := RX3) false (by decide +kernel) rfl (show (_ : Nat) ≤ _ from Nat.le_of_ble_eq_true rfl) (fun z => by cases z) (fun V C => ?_)
  show V h 0 0 0 [(0, .ref a0), (1, .int i1), (2, .int i2)] []
  unfold w_X3_reign at hw
  refine r_aload_n C rfl 0 rfl dX3_reign_0 (r_iload_n C rfl 1 rfl dX3_reign_1 ?_)
  refine r_callS (rest := [.ref a0]) (As := [.int i1]) C sg_X3_isYear q2439 q2440 q90 q2441 rfl (Nat.le_of_ble_eq_true rfl) dX3_reign_2 rfl (Nat.le_refl _) (Nat.le_refl _) (c_X3_isYear G l i1 h _ hw) (k_Z (fun r12 h13 hw => ?_))
  refine r_if_eq_b (tgt := 20) C (by decide) dX3_reign_5 (fun hc14 => ?_) (fun hc14 => ?_)
  · have hw := hw.1 hc14
    exact r_sub C [0, 1, 2] rfl (b_X3_reign_20 C _ _ _ _ _ hw)
  · have hw := hw.2 hc14
    refine r_iload_n C rfl 2 rfl dX3_reign_8 (r_i2l C dX3_reign_9 (r_lconst (v := (1 : Int64)) C (by decide) dX3_reign_10 (r_ldc2 (v := (255 : Int64)) C q2218 dX3_reign_11 ?_)))
    refine r_callS (rest := [.ref a0]) (As := [.long i2.toInt64, .long (1 : Int64), .long (255 : Int64)]) C sg_X3_in q2219 q2220 q90 q2221 rfl (Nat.le_of_ble_eq_true rfl) dX3_reign_14 rfl (Nat.le_refl _) (Nat.le_refl _) (c_X3_in G l i2.toInt64 (1 : Int64) (255 : Int64) h13 _ hw) (k_Z (fun r15 h16 hw => ?_))
    refine r_if_ne_b (tgt := 24) C (by decide) dX3_reign_17 (fun hc17 => ?_) (fun hc17 => ?_)
    · have hw := hw.1 hc17
      refine r_aload_n C rfl 0 rfl dX3_reign_24 ?_
      refine r_gfR (k := 1) C kX3 (by decide) (Or.inl q2156) (Or.inl rfl) dX3_reign_25 hw (fun v18 hw => ?_)
      refine r_iload_n C rfl 1 rfl dX3_reign_28 ?_
      obtain ⟨y19, rfl, hw_y19⟩ := hw
      have hw := hw_y19
      refine r_callS (rest := [.ref a0]) (As := [.ref y19, .int i1]) C sg_X3_canReign q2266 q2267 q90 q2268 rfl (Nat.le_of_ble_eq_true rfl) dX3_reign_29 rfl (Nat.le_refl _) (Nat.le_refl _) (c_X3_canReign G l y19 i1 h16 _ hw) (k_Z (fun r20 h21 hw => ?_))
      have hJ : V h21 0 0 40 [(0, .ref a0), (1, .int i1), (2, .int i2)] [.int (if r20 = true then (0 : Int32) else (2 : Int32)), .ref a0] := by
        exact r_sub C [0, 1, 2] rfl (b_X3_reign_40 C _ _ _ _ _ _ hw)
      refine r_if_ne_b (tgt := 39) C (by decide) dX3_reign_32 (fun hc22 => ?_) (fun hc22 => ?_)
      · have hJ23 := hJ
        try simp only [if_pos hc22] at hJ23
        refine r_iconst (v := (0 : Int32)) C (by decide) dX3_reign_39 ?_
        exact r_sub C [0, 1, 2] rfl hJ23
      · have hJ23 := hJ
        try simp only [if_neg (show ¬ r20 = true from by rw [hc22]; decide)] at hJ23
        refine r_iconst (v := (2 : Int32)) C (by decide) dX3_reign_35 (r_goto (tgt := 40) C (by decide) dX3_reign_36 ?_)
        exact r_sub C [0, 1, 2] rfl hJ23
    · have hw := hw.2 hc17
      exact r_sub C [0, 1, 2] rfl (b_X3_reign_20 C _ _ _ _ _ hw)
def w_X3_areYears (i0 : Int32) (i1 : Int32) (h : Hp) (Q : Bool → Hp → Prop) : Prop :=
  w_X3_isYear i0 h (fun r1 h2 => (r1 = false → Q false h2) ∧ (r1 = true → w_X3_in i1.toInt64 i0.toInt64 (1999 : Int64) h2 (fun r4 h5 => Q (if r4 = false then false else true) h5)))
theorem sg_X3_areYears : ySg yX3_areYears 2 = true := by decide +kernel
theorem c_X3_areYears (G : gT) (l : Launch) (i0 : Int32) (i1 : Int32) (h : Hp) (Q : Bool → Hp → Prop) (hw : w_X3_areYears i0 i1 h Q) : Ct G l yX3_areYears (ws_ yX3_areYears cX3_areYears 2 (some .boolean)) 3 57 0 0 [.int i0, .int i1] h (pZ Q) := by
  refine Ct.of (own := RX3) false (by decide +kernel) rfl (show (_ : Nat) ≤ _ from Nat.le_of_ble_eq_true rfl) (fun z => by cases z) (fun V C => ?_)
  show V h 0 0 0 [(0, .int i0), (1, .int i1)] []
  unfold w_X3_areYears at hw
  refine r_iload_n C rfl 0 rfl dX3_areYears_0 ?_
  refine r_callS (rest := []) (As := [.int i0]) C sg_X3_isYear q2439 q2440 q90 q2441 rfl (Nat.le_of_ble_eq_true rfl) dX3_areYears_1 rfl (Nat.le_refl _) (Nat.le_refl _) (c_X3_isYear G l i0 h _ hw) (k_Z (fun r1 h2 hw => ?_))
  refine r_if_eq_b (tgt := 24) C (by decide) dX3_areYears_4 (fun hc3 => ?_) (fun hc3 => ?_)
  · have hw := hw.1 hc3
    refine r_iconst (v := (0 : Int32)) C (by decide) dX3_areYears_24 ?_
    exact r_zreturn (x := false) C dX3_areYears_25 (Nat.le_refl _) (Nat.le_refl _) ⟨_, rfl, hw⟩
  · have hw := hw.2 hc3
    refine r_iload_n C rfl 1 rfl dX3_areYears_7 (r_i2l C dX3_areYears_8 (r_iload_n C rfl 0 rfl dX3_areYears_9 (r_i2l C dX3_areYears_10 (r_ldc2 (v := (1999 : Int64)) C q2443 dX3_areYears_11 ?_))))
    refine r_callS (rest := []) (As := [.long i1.toInt64, .long i0.toInt64, .long (1999 : Int64)]) C sg_X3_in q2219 q2220 q90 q2221 rfl (Nat.le_of_ble_eq_true rfl) dX3_areYears_14 rfl (Nat.le_refl _) (Nat.le_refl _) (c_X3_in G l i1.toInt64 i0.toInt64 (1999 : Int64) h2 _ hw) (k_Z (fun r4 h5 hw => ?_))
    have hJ : V h5 0 0 25 [] [.int (bI (if r4 = false then false else true))] := by
      exact r_zreturn (x := (if r4 = false then false else true)) C dX3_areYears_25 (Nat.le_refl _) (Nat.le_refl _) ⟨_, rfl, hw⟩
    refine r_if_eq_b (tgt := 24) C (by decide) dX3_areYears_17 (fun hc6 => ?_) (fun hc6 => ?_)
    · have hJ7 := hJ
      try simp only [if_pos hc6] at hJ7
      refine r_iconst (v := (0 : Int32)) C (by decide) dX3_areYears_24 ?_
      exact r_sub C [] rfl hJ7
    · have hJ7 := hJ
      try simp only [if_neg (show ¬ r4 = false from by rw [hc6]; decide)] at hJ7
      refine r_iconst (v := (1 : Int32)) C (by decide) dX3_areYears_20 (r_goto (tgt := 25) C (by decide) dX3_areYears_21 ?_)
      exact r_sub C [] rfl hJ7
def B_X3_die_41 (Q : Int32 → Hp → Prop) (h : Hp) (x0 : Nat) (x1 : Int32) (x2 : Int32) (x3 : Int32) (s0 : Nat) (s1 : Int32) : Prop :=
  hasC h s0 2 ∧ (w_X3_refused s0 s1 h (fun r2 h3 => (r2 = false → hasC h3 x0 2 ∧ (w_X3_remember x0 h3 (fun h7 => gfR h7 x0 2 1 (fun v8 => nn v8 (fun y9 => w_X3_goDie y9 x1 x2 x3 h7 (fun r10 h11 => Q r10 h11)))))) ∧ (r2 = true → Q (0 : Int32) h3)))
def B_X3_die_21 (Q : Int32 → Hp → Prop) (h : Hp) (x0 : Nat) (x1 : Int32) (x2 : Int32) (x3 : Int32) (s0 : Nat) : Prop :=
  B_X3_die_41 Q h x0 x1 x2 x3 s0 (1 : Int32)
def w_X3_die (a0 : Nat) (i1 : Int32) (i2 : Int32) (i3 : Int32) (h : Hp) (Q : Int32 → Hp → Prop) : Prop :=
  w_X3_in i1.toInt64 (0 : Int64) (5 : Int64) h (fun r12 h13 => (r12 = false → B_X3_die_21 Q h13 a0 i1 i2 i3 a0) ∧ (r12 = true → w_X3_areYears i2 i3 h13 (fun r15 h16 => (r15 = true → gfR h16 a0 2 1 (fun v18 => nn v18 (fun y19 => rdI h16 y19 (1 : Int32) (fun v20 => B_X3_die_41 Q h16 a0 i1 i2 i3 a0 (if ¬ v20 = (10 : Int32) then (0 : Int32) else (2 : Int32)))))) ∧ (r15 = false → B_X3_die_21 Q h16 a0 i1 i2 i3 a0))))
theorem b_X3_die_41 {G : gT} {l : Launch} {V : Hp → Nat → Nat → Nat → List (Nat × Value) → List Value → Prop} {Q : Int32 → Hp → Prop} (C : Cx G l V cX3_die 4 RX3 4 78 0 0 (pI Q) none (some .int) [] false) (h : Hp) (x0 : Nat) (x1 : Int32) (x2 : Int32) (x3 : Int32) (s0 : Nat) (s1 : Int32) (hw : B_X3_die_41 Q h x0 x1 x2 x3 s0 s1) : V h 0 0 41 [(0, .ref x0), (1, .int x1), (2, .int x2), (3, .int x3)] [.int s1, .ref s0] := by
  unfold B_X3_die_41 at hw
  obtain ⟨hq1, hw⟩ := hw
  refine r_callV (ci := 2) (rest := []) (As := [.int s1]) C sg_X3_refused rfl rfl q2222 q2224 qs38 q90 q2225 rfl (Nat.le_of_ble_eq_true rfl) dX3_die_41 rfl hq1 (Nat.le_refl _) (Nat.le_refl _) (c_X3_refused G l s0 s1 h _ hw) (k_Z (fun r2 h3 hw => ?_))
  refine r_if_eq_b (tgt := 49) C (by decide) dX3_die_44 (fun hc4 => ?_) (fun hc4 => ?_)
  · have hw := hw.1 hc4
    refine r_aload_n C rfl 0 rfl dX3_die_49 ?_
    obtain ⟨hq5, hw⟩ := hw
    refine r_callV (ci := 2) (rest := []) (As := []) C sg_X3_remember rfl rfl q2467 q2469 qs64 q90 q2470 rfl (Nat.le_of_ble_eq_true rfl) dX3_die_50 rfl hq5 (Nat.le_refl _) (Nat.le_refl _) (c_X3_remember G l x0 h3 _ hw) (k_V (fun h7 hw => ?_))
    refine r_aload_n C rfl 0 rfl dX3_die_53 ?_
    refine r_gfR (k := 1) C kX3 (by decide) (Or.inl q2156) (Or.inl rfl) dX3_die_54 hw (fun v8 hw => ?_)
    refine r_iload_n C rfl 1 rfl dX3_die_57 (r_iload_n C rfl 2 rfl dX3_die_58 (r_iload_n C rfl 3 rfl dX3_die_59 ?_))
    obtain ⟨y9, rfl, hw_y9⟩ := hw
    have hw := hw_y9
    refine r_callS (rest := []) (As := [.ref y9, .int x1, .int x2, .int x3]) C sg_X3_goDie q2284 q2285 q90 q2286 rfl (Nat.le_of_ble_eq_true rfl) dX3_die_60 rfl (Nat.le_refl _) (Nat.le_refl _) (c_X3_goDie G l y9 x1 x2 x3 h7 _ hw) (k_I (fun r10 h11 hw => ?_))
    exact r_ireturn C dX3_die_63 (Nat.le_refl _) (Nat.le_refl _) ⟨_, rfl, hw⟩
  · have hw := hw.2 hc4
    refine r_iconst (v := (0 : Int32)) C (by decide) dX3_die_47 ?_
    exact r_ireturn C dX3_die_48 (Nat.le_refl _) (Nat.le_refl _) ⟨_, rfl, hw⟩
theorem b_X3_die_21 {G : gT} {l : Launch} {V : Hp → Nat → Nat → Nat → List (Nat × Value) → List Value → Prop} {Q : Int32 → Hp → Prop} (C : Cx G l V cX3_die 4 RX3 4 78 0 0 (pI Q) none (some .int) [] false) (h : Hp) (x0 : Nat) (x1 : Int32) (x2 : Int32) (x3 : Int32) (s0 : Nat) (hw : B_X3_die_21 Q h x0 x1 x2 x3 s0) : V h 0 0 21 [(0, .ref x0), (1, .int x1), (2, .int x2), (3, .int x3)] [.ref s0] := by
  unfold B_X3_die_21 at hw
  refine r_iconst (v := (1 : Int32)) C (by decide) dX3_die_21 (r_goto (tgt := 41) C (by decide) dX3_die_22 ?_)
  exact r_sub C [0, 1, 2, 3] rfl (b_X3_die_41 C _ _ _ _ _ _ _ hw)
theorem sg_X3_die : ySg yX3_die 3 = true := by decide +kernel
theorem c_X3_die (G : gT) (l : Launch) (a0 : Nat) (i1 : Int32) (i2 : Int32) (i3 : Int32) (h : Hp) (Q : Int32 → Hp → Prop) (hw : w_X3_die a0 i1 i2 i3 h Q) : Ct G l yX3_die (ws_ yX3_die cX3_die 4 (some .int)) 4 78 0 0 [.ref a0, .int i1, .int i2, .int i3] h (pI Q) := by
  refine Ct.of (own := RX3) false (by decide +kernel) rfl (show (_ : Nat) ≤ _ from Nat.le_of_ble_eq_true rfl) (fun z => by cases z) (fun V C => ?_)
  show V h 0 0 0 [(0, .ref a0), (1, .int i1), (2, .int i2), (3, .int i3)] []
  unfold w_X3_die at hw
  refine r_aload_n C rfl 0 rfl dX3_die_0 (r_iload_n C rfl 1 rfl dX3_die_1 (r_i2l C dX3_die_2 (r_lconst (v := (0 : Int64)) C (by decide) dX3_die_3 (r_ldc2 (v := (5 : Int64)) C q2416 dX3_die_4 ?_))))
  refine r_callS (rest := [.ref a0]) (As := [.long i1.toInt64, .long (0 : Int64), .long (5 : Int64)]) C sg_X3_in q2219 q2220 q90 q2221 rfl (Nat.le_of_ble_eq_true rfl) dX3_die_7 rfl (Nat.le_refl _) (Nat.le_refl _) (c_X3_in G l i1.toInt64 (0 : Int64) (5 : Int64) h _ hw) (k_Z (fun r12 h13 hw => ?_))
  refine r_if_eq_b (tgt := 21) C (by decide) dX3_die_10 (fun hc14 => ?_) (fun hc14 => ?_)
  · have hw := hw.1 hc14
    exact r_sub C [0, 1, 2, 3] rfl (b_X3_die_21 C _ _ _ _ _ _ hw)
  · have hw := hw.2 hc14
    refine r_iload_n C rfl 2 rfl dX3_die_13 (r_iload_n C rfl 3 rfl dX3_die_14 ?_)
    refine r_callS (rest := [.ref a0]) (As := [.int i2, .int i3]) C sg_X3_areYears q2475 q2476 q90 q2477 rfl (Nat.le_of_ble_eq_true rfl) dX3_die_15 rfl (Nat.le_refl _) (Nat.le_refl _) (c_X3_areYears G l i2 i3 h13 _ hw) (k_Z (fun r15 h16 hw => ?_))
    refine r_if_ne_b (tgt := 25) C (by decide) dX3_die_18 (fun hc17 => ?_) (fun hc17 => ?_)
    · have hw := hw.1 hc17
      refine r_aload_n C rfl 0 rfl dX3_die_25 ?_
      refine r_gfR (k := 1) C kX3 (by decide) (Or.inl q2156) (Or.inl rfl) dX3_die_26 hw (fun v18 hw => ?_)
      refine r_iconst (v := (1 : Int32)) C (by decide) dX3_die_29 ?_
      obtain ⟨y19, rfl, hw_y19⟩ := hw
      have hw := hw_y19
      refine r_iaload C dX3_die_30 hw (fun v20 hw => ?_)
      refine r_bipush (v := (10 : Int32)) C (by decide) dX3_die_31 ?_
      have hJ : V h16 0 0 41 [(0, .ref a0), (1, .int i1), (2, .int i2), (3, .int i3)] [.int (if ¬ v20 = (10 : Int32) then (0 : Int32) else (2 : Int32)), .ref a0] := by
        exact r_sub C [0, 1, 2, 3] rfl (b_X3_die_41 C _ _ _ _ _ _ _ hw)
      refine r_icmp_ne (tgt := 40) C (by decide) dX3_die_33 (fun hc21 => ?_) (fun hc21 => ?_)
      · have hJ22 := hJ
        try simp only [if_pos hc21] at hJ22
        refine r_iconst (v := (0 : Int32)) C (by decide) dX3_die_40 ?_
        exact r_sub C [0, 1, 2, 3] rfl hJ22
      · have hJ22 := hJ
        try simp only [if_neg (show ¬ ¬ v20 = (10 : Int32) from fun z => z hc21)] at hJ22
        refine r_iconst (v := (2 : Int32)) C (by decide) dX3_die_36 (r_goto (tgt := 41) C (by decide) dX3_die_37 ?_)
        exact r_sub C [0, 1, 2, 3] rfl hJ22
    · have hw := hw.2 hc17
      exact r_sub C [0, 1, 2, 3] rfl (b_X3_die_21 C _ _ _ _ _ _ hw)
def B_X3_crack_44 (Q : Int32 → Hp → Prop) (h : Hp) (x0 : Nat) (x1 : Int32) (x2 : Int32) (s0 : Nat) (s1 : Int32) : Prop :=
  hasC h s0 2 ∧ (w_X3_refused s0 s1 h (fun r2 h3 => (r2 = false → hasC h3 x0 2 ∧ (w_X3_remember x0 h3 (fun h7 => gfR h7 x0 2 1 (fun v8 => nn v8 (fun y9 => w_X3_goCrack y9 x1 x2 h7 (fun r10 h11 => Q r10 h11)))))) ∧ (r2 = true → Q (0 : Int32) h3)))
def w_X3_crack (a0 : Nat) (i1 : Int32) (i2 : Int32) (h : Hp) (Q : Int32 → Hp → Prop) : Prop :=
  gfR h a0 2 1 (fun v12 => nn v12 (fun y13 => w_X3_hasDie y13 i1 h (fun r14 h15 => (r14 = true → w_X3_isYear i2 h15 (fun r17 h18 => (r17 = true → gfR h18 a0 2 1 (fun v20 => nn v20 (fun y21 => w_X3_canCrack y21 i1 i2 h18 (fun r22 h23 => B_X3_crack_44 Q h23 a0 i1 i2 a0 (if r22 = true then (0 : Int32) else (3 : Int32)))))) ∧ (r17 = false → B_X3_crack_44 Q h18 a0 i1 i2 a0 (2 : Int32)))) ∧ (r14 = false → B_X3_crack_44 Q h15 a0 i1 i2 a0 (1 : Int32)))))
theorem b_X3_crack_44 {G : gT} {l : Launch} {V : Hp → Nat → Nat → Nat → List (Nat × Value) → List Value → Prop} {Q : Int32 → Hp → Prop} (C : Cx G l V cX3_crack 3 RX3 3 58 0 0 (pI Q) none (some .int) [] false) (h : Hp) (x0 : Nat) (x1 : Int32) (x2 : Int32) (s0 : Nat) (s1 : Int32) (hw : B_X3_crack_44 Q h x0 x1 x2 s0 s1) : V h 0 0 44 [(0, .ref x0), (1, .int x1), (2, .int x2)] [.int s1, .ref s0] := by
  unfold B_X3_crack_44 at hw
  obtain ⟨hq1, hw⟩ := hw
  refine r_callV (ci := 2) (rest := []) (As := [.int s1]) C sg_X3_refused rfl rfl q2222 q2224 qs38 q90 q2225 rfl (Nat.le_of_ble_eq_true rfl) dX3_crack_44 rfl hq1 (Nat.le_refl _) (Nat.le_refl _) (c_X3_refused G l s0 s1 h _ hw) (k_Z (fun r2 h3 hw => ?_))
  refine r_if_eq_b (tgt := 52) C (by decide) dX3_crack_47 (fun hc4 => ?_) (fun hc4 => ?_)
  · have hw := hw.1 hc4
    refine r_aload_n C rfl 0 rfl dX3_crack_52 ?_
    obtain ⟨hq5, hw⟩ := hw
    refine r_callV (ci := 2) (rest := []) (As := []) C sg_X3_remember rfl rfl q2467 q2469 qs64 q90 q2470 rfl (Nat.le_of_ble_eq_true rfl) dX3_crack_53 rfl hq5 (Nat.le_refl _) (Nat.le_refl _) (c_X3_remember G l x0 h3 _ hw) (k_V (fun h7 hw => ?_))
    refine r_aload_n C rfl 0 rfl dX3_crack_56 ?_
    refine r_gfR (k := 1) C kX3 (by decide) (Or.inl q2156) (Or.inl rfl) dX3_crack_57 hw (fun v8 hw => ?_)
    refine r_iload_n C rfl 1 rfl dX3_crack_60 (r_iload_n C rfl 2 rfl dX3_crack_61 ?_)
    obtain ⟨y9, rfl, hw_y9⟩ := hw
    have hw := hw_y9
    refine r_callS (rest := []) (As := [.ref y9, .int x1, .int x2]) C sg_X3_goCrack q2297 q2298 q90 q2299 rfl (Nat.le_of_ble_eq_true rfl) dX3_crack_62 rfl (Nat.le_refl _) (Nat.le_refl _) (c_X3_goCrack G l y9 x1 x2 h7 _ hw) (k_I (fun r10 h11 hw => ?_))
    exact r_ireturn C dX3_crack_65 (Nat.le_refl _) (Nat.le_refl _) ⟨_, rfl, hw⟩
  · have hw := hw.2 hc4
    refine r_iconst (v := (0 : Int32)) C (by decide) dX3_crack_50 ?_
    exact r_ireturn C dX3_crack_51 (Nat.le_refl _) (Nat.le_refl _) ⟨_, rfl, hw⟩
theorem sg_X3_crack : ySg yX3_crack 2 = true := by decide +kernel
theorem c_X3_crack (G : gT) (l : Launch) (a0 : Nat) (i1 : Int32) (i2 : Int32) (h : Hp) (Q : Int32 → Hp → Prop) (hw : w_X3_crack a0 i1 i2 h Q) : Ct G l yX3_crack (ws_ yX3_crack cX3_crack 3 (some .int)) 3 58 0 0 [.ref a0, .int i1, .int i2] h (pI Q) := by
  refine Ct.of (own := RX3) false (by decide +kernel) rfl (show (_ : Nat) ≤ _ from Nat.le_of_ble_eq_true rfl) (fun z => by cases z) (fun V C => ?_)
  show V h 0 0 0 [(0, .ref a0), (1, .int i1), (2, .int i2)] []
  unfold w_X3_crack at hw
  refine r_aload_n C rfl 0 rfl dX3_crack_0 (r_aload_n C rfl 0 rfl dX3_crack_1 ?_)
  refine r_gfR (k := 1) C kX3 (by decide) (Or.inl q2156) (Or.inl rfl) dX3_crack_2 hw (fun v12 hw => ?_)
  refine r_iload_n C rfl 1 rfl dX3_crack_5 ?_
  obtain ⟨y13, rfl, hw_y13⟩ := hw
  have hw := hw_y13
  refine r_callS (rest := [.ref a0]) (As := [.ref y13, .int i1]) C sg_X3_hasDie q2291 q2292 q90 q2293 rfl (Nat.le_of_ble_eq_true rfl) dX3_crack_6 rfl (Nat.le_refl _) (Nat.le_refl _) (c_X3_hasDie G l y13 i1 h _ hw) (k_Z (fun r14 h15 hw => ?_))
  refine r_if_ne_b (tgt := 16) C (by decide) dX3_crack_9 (fun hc16 => ?_) (fun hc16 => ?_)
  · have hw := hw.1 hc16
    refine r_iload_n C rfl 2 rfl dX3_crack_16 ?_
    refine r_callS (rest := [.ref a0]) (As := [.int i2]) C sg_X3_isYear q2439 q2440 q90 q2441 rfl (Nat.le_of_ble_eq_true rfl) dX3_crack_17 rfl (Nat.le_refl _) (Nat.le_refl _) (c_X3_isYear G l i2 h15 _ hw) (k_Z (fun r17 h18 hw => ?_))
    refine r_if_ne_b (tgt := 27) C (by decide) dX3_crack_20 (fun hc19 => ?_) (fun hc19 => ?_)
    · have hw := hw.1 hc19
      refine r_aload_n C rfl 0 rfl dX3_crack_27 ?_
      refine r_gfR (k := 1) C kX3 (by decide) (Or.inl q2156) (Or.inl rfl) dX3_crack_28 hw (fun v20 hw => ?_)
      refine r_iload_n C rfl 1 rfl dX3_crack_31 (r_iload_n C rfl 2 rfl dX3_crack_32 ?_)
      obtain ⟨y21, rfl, hw_y21⟩ := hw
      have hw := hw_y21
      refine r_callS (rest := [.ref a0]) (As := [.ref y21, .int i1, .int i2]) C sg_X3_canCrack q2294 q2295 q90 q2296 rfl (Nat.le_of_ble_eq_true rfl) dX3_crack_33 rfl (Nat.le_refl _) (Nat.le_refl _) (c_X3_canCrack G l y21 i1 i2 h18 _ hw) (k_Z (fun r22 h23 hw => ?_))
      have hJ : V h23 0 0 44 [(0, .ref a0), (1, .int i1), (2, .int i2)] [.int (if r22 = true then (0 : Int32) else (3 : Int32)), .ref a0] := by
        exact r_sub C [0, 1, 2] rfl (b_X3_crack_44 C _ _ _ _ _ _ hw)
      refine r_if_ne_b (tgt := 43) C (by decide) dX3_crack_36 (fun hc24 => ?_) (fun hc24 => ?_)
      · have hJ25 := hJ
        try simp only [if_pos hc24] at hJ25
        refine r_iconst (v := (0 : Int32)) C (by decide) dX3_crack_43 ?_
        exact r_sub C [0, 1, 2] rfl hJ25
      · have hJ25 := hJ
        try simp only [if_neg (show ¬ r22 = true from by rw [hc24]; decide)] at hJ25
        refine r_iconst (v := (3 : Int32)) C (by decide) dX3_crack_39 (r_goto (tgt := 44) C (by decide) dX3_crack_40 ?_)
        exact r_sub C [0, 1, 2] rfl hJ25
    · have hw := hw.2 hc19
      refine r_iconst (v := (2 : Int32)) C (by decide) dX3_crack_23 (r_goto (tgt := 44) C (by decide) dX3_crack_24 ?_)
      exact r_sub C [0, 1, 2] rfl (b_X3_crack_44 C _ _ _ _ _ _ hw)
  · have hw := hw.2 hc16
    refine r_iconst (v := (1 : Int32)) C (by decide) dX3_crack_12 (r_goto (tgt := 44) C (by decide) dX3_crack_13 ?_)
    exact r_sub C [0, 1, 2] rfl (b_X3_crack_44 C _ _ _ _ _ _ hw)
def w_X3_isKind (i0 : Int32) (i1 : Int32) (i2 : Int32) (h : Hp) (Q : Bool → Hp → Prop) : Prop :=
  w_X3_in i0.toInt64 (0 : Int64) (1 : Int64) h (fun r1 h2 => (r1 = false → Q false h2) ∧ (r1 = true → w_X3_in i1.toInt64 (-1 : Int64) (7 : Int64) h2 (fun r4 h5 => (r4 = false → Q false h5) ∧ (r4 = true → w_X3_in i2.toInt64 (0 : Int64) (99 : Int64) h5 (fun r7 h8 => Q (if r7 = false then false else true) h8)))))
theorem sg_X3_isKind : ySg yX3_isKind 3 = true := by decide +kernel
theorem c_X3_isKind (G : gT) (l : Launch) (i0 : Int32) (i1 : Int32) (i2 : Int32) (h : Hp) (Q : Bool → Hp → Prop) (hw : w_X3_isKind i0 i1 i2 h Q) : Ct G l yX3_isKind (ws_ yX3_isKind cX3_isKind 3 (some .boolean)) 2 37 0 0 [.int i0, .int i1, .int i2] h (pZ Q) := by
  refine Ct.of (own := RX3) false (by decide +kernel) rfl (show (_ : Nat) ≤ _ from Nat.le_of_ble_eq_true rfl) (fun z => by cases z) (fun V C => ?_)
  show V h 0 0 0 [(0, .int i0), (1, .int i1), (2, .int i2)] []
  unfold w_X3_isKind at hw
  refine r_iload_n C rfl 0 rfl dX3_isKind_0 (r_i2l C dX3_isKind_1 (r_lconst (v := (0 : Int64)) C (by decide) dX3_isKind_2 (r_lconst (v := (1 : Int64)) C (by decide) dX3_isKind_3 ?_)))
  refine r_callS (rest := []) (As := [.long i0.toInt64, .long (0 : Int64), .long (1 : Int64)]) C sg_X3_in q2219 q2220 q90 q2221 rfl (Nat.le_of_ble_eq_true rfl) dX3_isKind_4 rfl (Nat.le_refl _) (Nat.le_refl _) (c_X3_in G l i0.toInt64 (0 : Int64) (1 : Int64) h _ hw) (k_Z (fun r1 h2 hw => ?_))
  refine r_if_eq_b (tgt := 40) C (by decide) dX3_isKind_7 (fun hc3 => ?_) (fun hc3 => ?_)
  · have hw := hw.1 hc3
    refine r_iconst (v := (0 : Int32)) C (by decide) dX3_isKind_40 ?_
    exact r_zreturn (x := false) C dX3_isKind_41 (Nat.le_refl _) (Nat.le_refl _) ⟨_, rfl, hw⟩
  · have hw := hw.2 hc3
    refine r_iload_n C rfl 1 rfl dX3_isKind_10 (r_i2l C dX3_isKind_11 (r_ldc2 (v := (-1 : Int64)) C q2489 dX3_isKind_12 (r_ldc2 (v := (7 : Int64)) C q2429 dX3_isKind_15 ?_)))
    refine r_callS (rest := []) (As := [.long i1.toInt64, .long (-1 : Int64), .long (7 : Int64)]) C sg_X3_in q2219 q2220 q90 q2221 rfl (Nat.le_of_ble_eq_true rfl) dX3_isKind_18 rfl (Nat.le_refl _) (Nat.le_refl _) (c_X3_in G l i1.toInt64 (-1 : Int64) (7 : Int64) h2 _ hw) (k_Z (fun r4 h5 hw => ?_))
    refine r_if_eq_b (tgt := 40) C (by decide) dX3_isKind_21 (fun hc6 => ?_) (fun hc6 => ?_)
    · have hw := hw.1 hc6
      refine r_iconst (v := (0 : Int32)) C (by decide) dX3_isKind_40 ?_
      exact r_zreturn (x := false) C dX3_isKind_41 (Nat.le_refl _) (Nat.le_refl _) ⟨_, rfl, hw⟩
    · have hw := hw.2 hc6
      refine r_iload_n C rfl 2 rfl dX3_isKind_24 (r_i2l C dX3_isKind_25 (r_lconst (v := (0 : Int64)) C (by decide) dX3_isKind_26 (r_ldc2 (v := (99 : Int64)) C q2490 dX3_isKind_27 ?_)))
      refine r_callS (rest := []) (As := [.long i2.toInt64, .long (0 : Int64), .long (99 : Int64)]) C sg_X3_in q2219 q2220 q90 q2221 rfl (Nat.le_of_ble_eq_true rfl) dX3_isKind_30 rfl (Nat.le_refl _) (Nat.le_refl _) (c_X3_in G l i2.toInt64 (0 : Int64) (99 : Int64) h5 _ hw) (k_Z (fun r7 h8 hw => ?_))
      have hJ : V h8 0 0 41 [] [.int (bI (if r7 = false then false else true))] := by
        exact r_zreturn (x := (if r7 = false then false else true)) C dX3_isKind_41 (Nat.le_refl _) (Nat.le_refl _) ⟨_, rfl, hw⟩
      refine r_if_eq_b (tgt := 40) C (by decide) dX3_isKind_33 (fun hc9 => ?_) (fun hc9 => ?_)
      · have hJ10 := hJ
        try simp only [if_pos hc9] at hJ10
        refine r_iconst (v := (0 : Int32)) C (by decide) dX3_isKind_40 ?_
        exact r_sub C [] rfl hJ10
      · have hJ10 := hJ
        try simp only [if_neg (show ¬ r7 = false from by rw [hc9]; decide)] at hJ10
        refine r_iconst (v := (1 : Int32)) C (by decide) dX3_isKind_36 (r_goto (tgt := 41) C (by decide) dX3_isKind_37 ?_)
        exact r_sub C [] rfl hJ10
def B_X3_seal_59 (Q : Int32 → Hp → Prop) (h : Hp) (x0 : Nat) (x1 : Int32) (x2 : Int32) (x3 : Int32) (x4 : Int32) (x5 : Int32) (s0 : Nat) (s1 : Int32) : Prop :=
  hasC h s0 2 ∧ (w_X3_refused s0 s1 h (fun r2 h3 => (r2 = false → hasC h3 x0 2 ∧ (w_X3_remember x0 h3 (fun h7 => gfR h7 x0 2 1 (fun v8 => nn v8 (fun y9 => w_X3_goSeal y9 x1 x2 x3 x4 x5 h7 (fun r10 h11 => Q r10 h11)))))) ∧ (r2 = true → Q (0 : Int32) h3)))
def B_X3_seal_39 (Q : Int32 → Hp → Prop) (h : Hp) (x0 : Nat) (x1 : Int32) (x2 : Int32) (x3 : Int32) (x4 : Int32) (x5 : Int32) (s0 : Nat) : Prop :=
  B_X3_seal_59 Q h x0 x1 x2 x3 x4 x5 s0 (2 : Int32)
def w_X3_seal (a0 : Nat) (i1 : Int32) (i2 : Int32) (i3 : Int32) (i4 : Int32) (i5 : Int32) (h : Hp) (Q : Int32 → Hp → Prop) : Prop :=
  gfR h a0 2 1 (fun v12 => nn v12 (fun y13 => w_X3_hasDie y13 i1 h (fun r14 h15 => (r14 = true → w_X3_isKind i2 i3 i4 h15 (fun r17 h18 => (r17 = false → B_X3_seal_39 Q h18 a0 i1 i2 i3 i4 i5 a0) ∧ (r17 = true → gfR h18 a0 2 1 (fun v20 => nn v20 (fun y21 => w_X3_areCracks y21 i1 i5 h18 (fun r22 h23 => (r22 = true → gfR h23 a0 2 1 (fun v25 => nn v25 (fun y26 => rdI h23 y26 (2 : Int32) (fun v27 => B_X3_seal_59 Q h23 a0 i1 i2 i3 i4 i5 a0 (if ¬ v27 = (24 : Int32) then (0 : Int32) else (3 : Int32)))))) ∧ (r22 = false → B_X3_seal_39 Q h23 a0 i1 i2 i3 i4 i5 a0))))))) ∧ (r14 = false → B_X3_seal_59 Q h15 a0 i1 i2 i3 i4 i5 a0 (1 : Int32)))))
theorem b_X3_seal_59 {G : gT} {l : Launch} {V : Hp → Nat → Nat → Nat → List (Nat × Value) → List Value → Prop} {Q : Int32 → Hp → Prop} (C : Cx G l V cX3_seal 6 RX3 3 59 0 0 (pI Q) none (some .int) [] false) (h : Hp) (x0 : Nat) (x1 : Int32) (x2 : Int32) (x3 : Int32) (x4 : Int32) (x5 : Int32) (s0 : Nat) (s1 : Int32) (hw : B_X3_seal_59 Q h x0 x1 x2 x3 x4 x5 s0 s1) : V h 0 0 59 [(0, .ref x0), (1, .int x1), (2, .int x2), (3, .int x3), (4, .int x4), (5, .int x5)] [.int s1, .ref s0] := by
  unfold B_X3_seal_59 at hw
  obtain ⟨hq1, hw⟩ := hw
  refine r_callV (ci := 2) (rest := []) (As := [.int s1]) C sg_X3_refused rfl rfl q2222 q2224 qs38 q90 q2225 rfl (Nat.le_of_ble_eq_true rfl) dX3_seal_59 rfl hq1 (Nat.le_refl _) (Nat.le_refl _) (c_X3_refused G l s0 s1 h _ hw) (k_Z (fun r2 h3 hw => ?_))
  refine r_if_eq_b (tgt := 67) C (by decide) dX3_seal_62 (fun hc4 => ?_) (fun hc4 => ?_)
  · have hw := hw.1 hc4
    refine r_aload_n C rfl 0 rfl dX3_seal_67 ?_
    obtain ⟨hq5, hw⟩ := hw
    refine r_callV (ci := 2) (rest := []) (As := []) C sg_X3_remember rfl rfl q2467 q2469 qs64 q90 q2470 rfl (Nat.le_of_ble_eq_true rfl) dX3_seal_68 rfl hq5 (Nat.le_refl _) (Nat.le_refl _) (c_X3_remember G l x0 h3 _ hw) (k_V (fun h7 hw => ?_))
    refine r_aload_n C rfl 0 rfl dX3_seal_71 ?_
    refine r_gfR (k := 1) C kX3 (by decide) (Or.inl q2156) (Or.inl rfl) dX3_seal_72 hw (fun v8 hw => ?_)
    refine r_iload_n C rfl 1 rfl dX3_seal_75 (r_iload_n C rfl 2 rfl dX3_seal_76 (r_iload_n C rfl 3 rfl dX3_seal_77 (r_iload C 4 rfl dX3_seal_78 (r_iload C 5 rfl dX3_seal_80 ?_))))
    obtain ⟨y9, rfl, hw_y9⟩ := hw
    have hw := hw_y9
    refine r_callS (rest := []) (As := [.ref y9, .int x1, .int x2, .int x3, .int x4, .int x5]) C sg_X3_goSeal q2320 q2321 q90 q2322 rfl (Nat.le_of_ble_eq_true rfl) dX3_seal_82 rfl (Nat.le_refl _) (Nat.le_refl _) (c_X3_goSeal G l y9 x1 x2 x3 x4 x5 h7 _ hw) (k_I (fun r10 h11 hw => ?_))
    exact r_ireturn C dX3_seal_85 (Nat.le_refl _) (Nat.le_refl _) ⟨_, rfl, hw⟩
  · have hw := hw.2 hc4
    refine r_iconst (v := (0 : Int32)) C (by decide) dX3_seal_65 ?_
    exact r_ireturn C dX3_seal_66 (Nat.le_refl _) (Nat.le_refl _) ⟨_, rfl, hw⟩
theorem b_X3_seal_39 {G : gT} {l : Launch} {V : Hp → Nat → Nat → Nat → List (Nat × Value) → List Value → Prop} {Q : Int32 → Hp → Prop} (C : Cx G l V cX3_seal 6 RX3 3 59 0 0 (pI Q) none (some .int) [] false) (h : Hp) (x0 : Nat) (x1 : Int32) (x2 : Int32) (x3 : Int32) (x4 : Int32) (x5 : Int32) (s0 : Nat) (hw : B_X3_seal_39 Q h x0 x1 x2 x3 x4 x5 s0) : V h 0 0 39 [(0, .ref x0), (1, .int x1), (2, .int x2), (3, .int x3), (4, .int x4), (5, .int x5)] [.ref s0] := by
  unfold B_X3_seal_39 at hw
  refine r_iconst (v := (2 : Int32)) C (by decide) dX3_seal_39 (r_goto (tgt := 59) C (by decide) dX3_seal_40 ?_)
  exact r_sub C [0, 1, 2, 3, 4, 5] rfl (b_X3_seal_59 C _ _ _ _ _ _ _ _ _ hw)
theorem sg_X3_seal : ySg yX3_seal 5 = true := by decide +kernel
theorem c_X3_seal (G : gT) (l : Launch) (a0 : Nat) (i1 : Int32) (i2 : Int32) (i3 : Int32) (i4 : Int32) (i5 : Int32) (h : Hp) (Q : Int32 → Hp → Prop) (hw : w_X3_seal a0 i1 i2 i3 i4 i5 h Q) : Ct G l yX3_seal (ws_ yX3_seal cX3_seal 6 (some .int)) 3 59 0 0 [.ref a0, .int i1, .int i2, .int i3, .int i4, .int i5] h (pI Q) := by
  refine Ct.of (own := RX3) false (by decide +kernel) rfl (show (_ : Nat) ≤ _ from Nat.le_of_ble_eq_true rfl) (fun z => by cases z) (fun V C => ?_)
  show V h 0 0 0 [(0, .ref a0), (1, .int i1), (2, .int i2), (3, .int i3), (4, .int i4), (5, .int i5)] []
  unfold w_X3_seal at hw
  refine r_aload_n C rfl 0 rfl dX3_seal_0 (r_aload_n C rfl 0 rfl dX3_seal_1 ?_)
  refine r_gfR (k := 1) C kX3 (by decide) (Or.inl q2156) (Or.inl rfl) dX3_seal_2 hw (fun v12 hw => ?_)
  refine r_iload_n C rfl 1 rfl dX3_seal_5 ?_
  obtain ⟨y13, rfl, hw_y13⟩ := hw
  have hw := hw_y13
  refine r_callS (rest := [.ref a0]) (As := [.ref y13, .int i1]) C sg_X3_hasDie q2291 q2292 q90 q2293 rfl (Nat.le_of_ble_eq_true rfl) dX3_seal_6 rfl (Nat.le_refl _) (Nat.le_refl _) (c_X3_hasDie G l y13 i1 h _ hw) (k_Z (fun r14 h15 hw => ?_))
  refine r_if_ne_b (tgt := 16) C (by decide) dX3_seal_9 (fun hc16 => ?_) (fun hc16 => ?_)
  · have hw := hw.1 hc16
    refine r_iload_n C rfl 2 rfl dX3_seal_16 (r_iload_n C rfl 3 rfl dX3_seal_17 (r_iload C 4 rfl dX3_seal_18 ?_))
    refine r_callS (rest := [.ref a0]) (As := [.int i2, .int i3, .int i4]) C sg_X3_isKind q2486 q2487 q90 q2488 rfl (Nat.le_of_ble_eq_true rfl) dX3_seal_20 rfl (Nat.le_refl _) (Nat.le_refl _) (c_X3_isKind G l i2 i3 i4 h15 _ hw) (k_Z (fun r17 h18 hw => ?_))
    refine r_if_eq_b (tgt := 39) C (by decide) dX3_seal_23 (fun hc19 => ?_) (fun hc19 => ?_)
    · have hw := hw.1 hc19
      exact r_sub C [0, 1, 2, 3, 4, 5] rfl (b_X3_seal_39 C _ _ _ _ _ _ _ _ hw)
    · have hw := hw.2 hc19
      refine r_aload_n C rfl 0 rfl dX3_seal_26 ?_
      refine r_gfR (k := 1) C kX3 (by decide) (Or.inl q2156) (Or.inl rfl) dX3_seal_27 hw (fun v20 hw => ?_)
      refine r_iload_n C rfl 1 rfl dX3_seal_30 (r_iload C 5 rfl dX3_seal_31 ?_)
      obtain ⟨y21, rfl, hw_y21⟩ := hw
      have hw := hw_y21
      refine r_callS (rest := [.ref a0]) (As := [.ref y21, .int i1, .int i5]) C sg_X3_areCracks q2317 q2318 q90 q2319 rfl (Nat.le_of_ble_eq_true rfl) dX3_seal_33 rfl (Nat.le_refl _) (Nat.le_refl _) (c_X3_areCracks G l y21 i1 i5 h18 _ hw) (k_Z (fun r22 h23 hw => ?_))
      refine r_if_ne_b (tgt := 43) C (by decide) dX3_seal_36 (fun hc24 => ?_) (fun hc24 => ?_)
      · have hw := hw.1 hc24
        refine r_aload_n C rfl 0 rfl dX3_seal_43 ?_
        refine r_gfR (k := 1) C kX3 (by decide) (Or.inl q2156) (Or.inl rfl) dX3_seal_44 hw (fun v25 hw => ?_)
        refine r_iconst (v := (2 : Int32)) C (by decide) dX3_seal_47 ?_
        obtain ⟨y26, rfl, hw_y26⟩ := hw
        have hw := hw_y26
        refine r_iaload C dX3_seal_48 hw (fun v27 hw => ?_)
        refine r_bipush (v := (24 : Int32)) C (by decide) dX3_seal_49 ?_
        have hJ : V h23 0 0 59 [(0, .ref a0), (1, .int i1), (2, .int i2), (3, .int i3), (4, .int i4), (5, .int i5)] [.int (if ¬ v27 = (24 : Int32) then (0 : Int32) else (3 : Int32)), .ref a0] := by
          exact r_sub C [0, 1, 2, 3, 4, 5] rfl (b_X3_seal_59 C _ _ _ _ _ _ _ _ _ hw)
        refine r_icmp_ne (tgt := 58) C (by decide) dX3_seal_51 (fun hc28 => ?_) (fun hc28 => ?_)
        · have hJ29 := hJ
          try simp only [if_pos hc28] at hJ29
          refine r_iconst (v := (0 : Int32)) C (by decide) dX3_seal_58 ?_
          exact r_sub C [0, 1, 2, 3, 4, 5] rfl hJ29
        · have hJ29 := hJ
          try simp only [if_neg (show ¬ ¬ v27 = (24 : Int32) from fun z => z hc28)] at hJ29
          refine r_iconst (v := (3 : Int32)) C (by decide) dX3_seal_54 (r_goto (tgt := 59) C (by decide) dX3_seal_55 ?_)
          exact r_sub C [0, 1, 2, 3, 4, 5] rfl hJ29
      · have hw := hw.2 hc24
        exact r_sub C [0, 1, 2, 3, 4, 5] rfl (b_X3_seal_39 C _ _ _ _ _ _ _ _ hw)
  · have hw := hw.2 hc16
    refine r_iconst (v := (1 : Int32)) C (by decide) dX3_seal_12 (r_goto (tgt := 59) C (by decide) dX3_seal_13 ?_)
    exact r_sub C [0, 1, 2, 3, 4, 5] rfl (b_X3_seal_59 C _ _ _ _ _ _ _ _ _ hw)
def w_X3_goShow (a0 : Nat) (i1 : Int32) (i2 : Int32) (h : Hp) (Q : Int32 → Hp → Prop) : Prop :=
  rdI h a0 ((201 : Int32) + i1) (fun v1 => wrI h a0 ((201 : Int32) + i1) i2 (fun h2 => Q v1 h2))
theorem sg_X3_goShow : ySg yX3_goShow 3 = true := by decide +kernel
theorem c_X3_goShow (G : gT) (l : Launch) (a0 : Nat) (i1 : Int32) (i2 : Int32) (h : Hp) (Q : Int32 → Hp → Prop) (hw : w_X3_goShow a0 i1 i2 h Q) : Ct G l yX3_goShow (ws_ yX3_goShow cX3_goShow 4 (some .int)) 1 12 0 0 [.ref a0, .int i1, .int i2] h (pI Q) := by
  refine Ct.of (own := RX3) false (by decide +kernel) rfl (show (_ : Nat) ≤ _ from Nat.le_of_ble_eq_true rfl) (fun z => by cases z) (fun V C => ?_)
  show V h 0 0 0 [(0, .ref a0), (1, .int i1), (2, .int i2)] []
  unfold w_X3_goShow at hw
  refine r_aload_n C rfl 0 rfl dX3_goShow_0 (r_sipush (v := (201 : Int32)) C (by decide) dX3_goShow_1 (r_iload_n C rfl 1 rfl dX3_goShow_4 (r_iadd C dX3_goShow_5 ?_)))
  refine r_iaload C dX3_goShow_6 hw (fun v1 hw => ?_)
  refine r_istore_n (L' := [(3, .int v1), (0, .ref a0), (1, .int i1), (2, .int i2)]) C rfl (by decide) rfl dX3_goShow_7 (r_aload_n C rfl 1 rfl dX3_goShow_8 (r_sipush (v := (201 : Int32)) C (by decide) dX3_goShow_9 (r_iload_n C rfl 2 rfl dX3_goShow_12 (r_iadd C dX3_goShow_13 (r_iload_n C rfl 3 rfl dX3_goShow_14 ?_)))))
  refine r_iastore C dX3_goShow_15 hw (fun h2 hw => ?_)
  refine r_iload_n C rfl 0 rfl dX3_goShow_16 ?_
  exact r_ireturn C dX3_goShow_17 (Nat.le_refl _) (Nat.le_refl _) ⟨_, rfl, hw⟩
def B_X3_show_41 (Q : Int32 → Hp → Prop) (h : Hp) (x0 : Nat) (x1 : Int32) (x2 : Int32) (s0 : Nat) (s1 : Int32) : Prop :=
  hasC h s0 2 ∧ (w_X3_refused s0 s1 h (fun r2 h3 => (r2 = false → hasC h3 x0 2 ∧ (w_X3_remember x0 h3 (fun h7 => gfR h7 x0 2 1 (fun v8 => nn v8 (fun y9 => w_X3_goShow y9 x1 x2 h7 (fun r10 h11 => Q r10 h11)))))) ∧ (r2 = true → Q (0 : Int32) h3)))
def w_X3_show (a0 : Nat) (i1 : Int32) (i2 : Int32) (h : Hp) (Q : Int32 → Hp → Prop) : Prop :=
  gfR h a0 2 1 (fun v12 => nn v12 (fun y13 => w_X3_hasSeal y13 i1 h (fun r14 h15 => (r14 = true → gfR h15 a0 2 1 (fun v17 => gfR h15 a0 2 1 (fun v18 => nn v18 (fun y19 => rdI h15 y19 ((105 : Int32) + i1) (fun v20 => nn v17 (fun y21 => w_X3_areCracks y21 v20 i2 h15 (fun r22 h23 => B_X3_show_41 Q h23 a0 i1 i2 a0 (if r22 = true then (0 : Int32) else (2 : Int32))))))))) ∧ (r14 = false → B_X3_show_41 Q h15 a0 i1 i2 a0 (1 : Int32)))))
theorem b_X3_show_41 {G : gT} {l : Launch} {V : Hp → Nat → Nat → Nat → List (Nat × Value) → List Value → Prop} {Q : Int32 → Hp → Prop} (C : Cx G l V cX3_show 3 RX3 3 59 0 0 (pI Q) none (some .int) [] false) (h : Hp) (x0 : Nat) (x1 : Int32) (x2 : Int32) (s0 : Nat) (s1 : Int32) (hw : B_X3_show_41 Q h x0 x1 x2 s0 s1) : V h 0 0 41 [(0, .ref x0), (1, .int x1), (2, .int x2)] [.int s1, .ref s0] := by
  unfold B_X3_show_41 at hw
  obtain ⟨hq1, hw⟩ := hw
  refine r_callV (ci := 2) (rest := []) (As := [.int s1]) C sg_X3_refused rfl rfl q2222 q2224 qs38 q90 q2225 rfl (Nat.le_of_ble_eq_true rfl) dX3_show_41 rfl hq1 (Nat.le_refl _) (Nat.le_refl _) (c_X3_refused G l s0 s1 h _ hw) (k_Z (fun r2 h3 hw => ?_))
  refine r_if_eq_b (tgt := 49) C (by decide) dX3_show_44 (fun hc4 => ?_) (fun hc4 => ?_)
  · have hw := hw.1 hc4
    refine r_aload_n C rfl 0 rfl dX3_show_49 ?_
    obtain ⟨hq5, hw⟩ := hw
    refine r_callV (ci := 2) (rest := []) (As := []) C sg_X3_remember rfl rfl q2467 q2469 qs64 q90 q2470 rfl (Nat.le_of_ble_eq_true rfl) dX3_show_50 rfl hq5 (Nat.le_refl _) (Nat.le_refl _) (c_X3_remember G l x0 h3 _ hw) (k_V (fun h7 hw => ?_))
    refine r_aload_n C rfl 0 rfl dX3_show_53 ?_
    refine r_gfR (k := 1) C kX3 (by decide) (Or.inl q2156) (Or.inl rfl) dX3_show_54 hw (fun v8 hw => ?_)
    refine r_iload_n C rfl 1 rfl dX3_show_57 (r_iload_n C rfl 2 rfl dX3_show_58 ?_)
    obtain ⟨y9, rfl, hw_y9⟩ := hw
    have hw := hw_y9
    refine r_callS (rest := []) (As := [.ref y9, .int x1, .int x2]) C sg_X3_goShow q2495 q2496 q90 q2497 rfl (Nat.le_of_ble_eq_true rfl) dX3_show_59 rfl (Nat.le_refl _) (Nat.le_refl _) (c_X3_goShow G l y9 x1 x2 h7 _ hw) (k_I (fun r10 h11 hw => ?_))
    exact r_ireturn C dX3_show_62 (Nat.le_refl _) (Nat.le_refl _) ⟨_, rfl, hw⟩
  · have hw := hw.2 hc4
    refine r_iconst (v := (0 : Int32)) C (by decide) dX3_show_47 ?_
    exact r_ireturn C dX3_show_48 (Nat.le_refl _) (Nat.le_refl _) ⟨_, rfl, hw⟩
theorem sg_X3_show : ySg yX3_show 2 = true := by decide +kernel
theorem c_X3_show (G : gT) (l : Launch) (a0 : Nat) (i1 : Int32) (i2 : Int32) (h : Hp) (Q : Int32 → Hp → Prop) (hw : w_X3_show a0 i1 i2 h Q) : Ct G l yX3_show (ws_ yX3_show cX3_show 3 (some .int)) 3 59 0 0 [.ref a0, .int i1, .int i2] h (pI Q) := by
  refine Ct.of (own := RX3) false (by decide +kernel) rfl (show (_ : Nat) ≤ _ from Nat.le_of_ble_eq_true rfl) (fun z => by cases z) (fun V C => ?_)
  show V h 0 0 0 [(0, .ref a0), (1, .int i1), (2, .int i2)] []
  unfold w_X3_show at hw
  refine r_aload_n C rfl 0 rfl dX3_show_0 (r_aload_n C rfl 0 rfl dX3_show_1 ?_)
  refine r_gfR (k := 1) C kX3 (by decide) (Or.inl q2156) (Or.inl rfl) dX3_show_2 hw (fun v12 hw => ?_)
  refine r_iload_n C rfl 1 rfl dX3_show_5 ?_
  obtain ⟨y13, rfl, hw_y13⟩ := hw
  have hw := hw_y13
  refine r_callS (rest := [.ref a0]) (As := [.ref y13, .int i1]) C sg_X3_hasSeal q2304 q2305 q90 q2306 rfl (Nat.le_of_ble_eq_true rfl) dX3_show_6 rfl (Nat.le_refl _) (Nat.le_refl _) (c_X3_hasSeal G l y13 i1 h _ hw) (k_Z (fun r14 h15 hw => ?_))
  refine r_if_ne_b (tgt := 16) C (by decide) dX3_show_9 (fun hc16 => ?_) (fun hc16 => ?_)
  · have hw := hw.1 hc16
    refine r_aload_n C rfl 0 rfl dX3_show_16 ?_
    refine r_gfR (k := 1) C kX3 (by decide) (Or.inl q2156) (Or.inl rfl) dX3_show_17 hw (fun v17 hw => ?_)
    refine r_aload_n C rfl 0 rfl dX3_show_20 ?_
    refine r_gfR (k := 1) C kX3 (by decide) (Or.inl q2156) (Or.inl rfl) dX3_show_21 hw (fun v18 hw => ?_)
    refine r_bipush (v := (105 : Int32)) C (by decide) dX3_show_24 (r_iload_n C rfl 1 rfl dX3_show_26 (r_iadd C dX3_show_27 ?_))
    obtain ⟨y19, rfl, hw_y19⟩ := hw
    have hw := hw_y19
    refine r_iaload C dX3_show_28 hw (fun v20 hw => ?_)
    refine r_iload_n C rfl 2 rfl dX3_show_29 ?_
    obtain ⟨y21, rfl, hw_y21⟩ := hw
    have hw := hw_y21
    refine r_callS (rest := [.ref a0]) (As := [.ref y21, .int v20, .int i2]) C sg_X3_areCracks q2317 q2318 q90 q2319 rfl (Nat.le_of_ble_eq_true rfl) dX3_show_30 rfl (Nat.le_refl _) (Nat.le_refl _) (c_X3_areCracks G l y21 v20 i2 h15 _ hw) (k_Z (fun r22 h23 hw => ?_))
    have hJ : V h23 0 0 41 [(0, .ref a0), (1, .int i1), (2, .int i2)] [.int (if r22 = true then (0 : Int32) else (2 : Int32)), .ref a0] := by
      exact r_sub C [0, 1, 2] rfl (b_X3_show_41 C _ _ _ _ _ _ hw)
    refine r_if_ne_b (tgt := 40) C (by decide) dX3_show_33 (fun hc24 => ?_) (fun hc24 => ?_)
    · have hJ25 := hJ
      try simp only [if_pos hc24] at hJ25
      refine r_iconst (v := (0 : Int32)) C (by decide) dX3_show_40 ?_
      exact r_sub C [0, 1, 2] rfl hJ25
    · have hJ25 := hJ
      try simp only [if_neg (show ¬ r22 = true from by rw [hc24]; decide)] at hJ25
      refine r_iconst (v := (2 : Int32)) C (by decide) dX3_show_36 (r_goto (tgt := 41) C (by decide) dX3_show_37 ?_)
      exact r_sub C [0, 1, 2] rfl hJ25
  · have hw := hw.2 hc16
    refine r_iconst (v := (1 : Int32)) C (by decide) dX3_show_12 (r_goto (tgt := 41) C (by decide) dX3_show_13 ?_)
    exact r_sub C [0, 1, 2] rfl (b_X3_show_41 C _ _ _ _ _ _ hw)
def B_X3_hang_24 (Q : Int32 → Hp → Prop) (h : Hp) (x0 : Nat) (x1 : Int32) (x2 : Int32) (s0 : Nat) (s1 : Bool) : Prop :=
  hasC h s0 2 ∧ (w_X3_refused s0 (bI s1) h (fun r2 h3 => (r2 = false → hasC h3 x0 2 ∧ (w_X3_remember x0 h3 (fun h7 => gfR h7 x0 2 1 (fun v8 => nn v8 (fun y9 => w_X3_goHang y9 x1 x2 h7 (fun r10 h11 => Q r10 h11)))))) ∧ (r2 = true → Q (0 : Int32) h3)))
def w_X3_hang (a0 : Nat) (i1 : Int32) (i2 : Int32) (h : Hp) (Q : Int32 → Hp → Prop) : Prop :=
  gfR h a0 2 1 (fun v12 => nn v12 (fun y13 => w_X3_hasSeal y13 i1 h (fun r14 h15 => (r14 = false → B_X3_hang_24 Q h15 a0 i1 i2 a0 true) ∧ (r14 = true → w_X3_isCharter i2 h15 (fun r17 h18 => B_X3_hang_24 Q h18 a0 i1 i2 a0 (if r17 = false then true else false))))))
theorem b_X3_hang_24 {G : gT} {l : Launch} {V : Hp → Nat → Nat → Nat → List (Nat × Value) → List Value → Prop} {Q : Int32 → Hp → Prop} (C : Cx G l V cX3_hang 3 RX3 3 58 0 0 (pI Q) none (some .int) [] false) (h : Hp) (x0 : Nat) (x1 : Int32) (x2 : Int32) (s0 : Nat) (s1 : Bool) (hw : B_X3_hang_24 Q h x0 x1 x2 s0 s1) : V h 0 0 24 [(0, .ref x0), (1, .int x1), (2, .int x2)] [.int (bI s1), .ref s0] := by
  unfold B_X3_hang_24 at hw
  obtain ⟨hq1, hw⟩ := hw
  refine r_callV (ci := 2) (rest := []) (As := [.int (bI s1)]) C sg_X3_refused rfl rfl q2222 q2224 qs38 q90 q2225 rfl (Nat.le_of_ble_eq_true rfl) dX3_hang_24 rfl hq1 (Nat.le_refl _) (Nat.le_refl _) (c_X3_refused G l s0 (bI s1) h _ hw) (k_Z (fun r2 h3 hw => ?_))
  refine r_if_eq_b (tgt := 32) C (by decide) dX3_hang_27 (fun hc4 => ?_) (fun hc4 => ?_)
  · have hw := hw.1 hc4
    refine r_aload_n C rfl 0 rfl dX3_hang_32 ?_
    obtain ⟨hq5, hw⟩ := hw
    refine r_callV (ci := 2) (rest := []) (As := []) C sg_X3_remember rfl rfl q2467 q2469 qs64 q90 q2470 rfl (Nat.le_of_ble_eq_true rfl) dX3_hang_33 rfl hq5 (Nat.le_refl _) (Nat.le_refl _) (c_X3_remember G l x0 h3 _ hw) (k_V (fun h7 hw => ?_))
    refine r_aload_n C rfl 0 rfl dX3_hang_36 ?_
    refine r_gfR (k := 1) C kX3 (by decide) (Or.inl q2156) (Or.inl rfl) dX3_hang_37 hw (fun v8 hw => ?_)
    refine r_iload_n C rfl 1 rfl dX3_hang_40 (r_iload_n C rfl 2 rfl dX3_hang_41 ?_)
    obtain ⟨y9, rfl, hw_y9⟩ := hw
    have hw := hw_y9
    refine r_callS (rest := []) (As := [.ref y9, .int x1, .int x2]) C sg_X3_goHang q2307 q2308 q90 q2309 rfl (Nat.le_of_ble_eq_true rfl) dX3_hang_42 rfl (Nat.le_refl _) (Nat.le_refl _) (c_X3_goHang G l y9 x1 x2 h7 _ hw) (k_I (fun r10 h11 hw => ?_))
    exact r_ireturn C dX3_hang_45 (Nat.le_refl _) (Nat.le_refl _) ⟨_, rfl, hw⟩
  · have hw := hw.2 hc4
    refine r_iconst (v := (0 : Int32)) C (by decide) dX3_hang_30 ?_
    exact r_ireturn C dX3_hang_31 (Nat.le_refl _) (Nat.le_refl _) ⟨_, rfl, hw⟩
theorem sg_X3_hang : ySg yX3_hang 2 = true := by decide +kernel
theorem c_X3_hang (G : gT) (l : Launch) (a0 : Nat) (i1 : Int32) (i2 : Int32) (h : Hp) (Q : Int32 → Hp → Prop) (hw : w_X3_hang a0 i1 i2 h Q) : Ct G l yX3_hang (ws_ yX3_hang cX3_hang 3 (some .int)) 3 58 0 0 [.ref a0, .int i1, .int i2] h (pI Q) := by
  refine Ct.of (own := RX3) false (by decide +kernel) rfl (show (_ : Nat) ≤ _ from Nat.le_of_ble_eq_true rfl) (fun z => by cases z) (fun V C => ?_)
  show V h 0 0 0 [(0, .ref a0), (1, .int i1), (2, .int i2)] []
  unfold w_X3_hang at hw
  refine r_aload_n C rfl 0 rfl dX3_hang_0 (r_aload_n C rfl 0 rfl dX3_hang_1 ?_)
  refine r_gfR (k := 1) C kX3 (by decide) (Or.inl q2156) (Or.inl rfl) dX3_hang_2 hw (fun v12 hw => ?_)
  refine r_iload_n C rfl 1 rfl dX3_hang_5 ?_
  obtain ⟨y13, rfl, hw_y13⟩ := hw
  have hw := hw_y13
  refine r_callS (rest := [.ref a0]) (As := [.ref y13, .int i1]) C sg_X3_hasSeal q2304 q2305 q90 q2306 rfl (Nat.le_of_ble_eq_true rfl) dX3_hang_6 rfl (Nat.le_refl _) (Nat.le_refl _) (c_X3_hasSeal G l y13 i1 h _ hw) (k_Z (fun r14 h15 hw => ?_))
  refine r_if_eq_b (tgt := 23) C (by decide) dX3_hang_9 (fun hc16 => ?_) (fun hc16 => ?_)
  · have hw := hw.1 hc16
    refine r_iconst (v := (1 : Int32)) C (by decide) dX3_hang_23 ?_
    exact r_sub C [0, 1, 2] rfl (b_X3_hang_24 C _ _ _ _ _ _ hw)
  · have hw := hw.2 hc16
    refine r_iload_n C rfl 2 rfl dX3_hang_12 ?_
    refine r_callS (rest := [.ref a0]) (As := [.int i2]) C sg_X3_isCharter q2452 q2453 q90 q2454 rfl (Nat.le_of_ble_eq_true rfl) dX3_hang_13 rfl (Nat.le_refl _) (Nat.le_refl _) (c_X3_isCharter G l i2 h15 _ hw) (k_Z (fun r17 h18 hw => ?_))
    have hJ : V h18 0 0 24 [(0, .ref a0), (1, .int i1), (2, .int i2)] [.int (bI (if r17 = false then true else false)), .ref a0] := by
      exact r_sub C [0, 1, 2] rfl (b_X3_hang_24 C _ _ _ _ _ _ hw)
    refine r_if_eq_b (tgt := 23) C (by decide) dX3_hang_16 (fun hc19 => ?_) (fun hc19 => ?_)
    · have hJ20 := hJ
      try simp only [if_pos hc19] at hJ20
      refine r_iconst (v := (1 : Int32)) C (by decide) dX3_hang_23 ?_
      exact r_sub C [0, 1, 2] rfl hJ20
    · have hJ20 := hJ
      try simp only [if_neg (show ¬ r17 = false from by rw [hc19]; decide)] at hJ20
      refine r_iconst (v := (0 : Int32)) C (by decide) dX3_hang_19 (r_goto (tgt := 24) C (by decide) dX3_hang_20 ?_)
      exact r_sub C [0, 1, 2] rfl hJ20
def w_X3_goCut (a0 : Nat) (i1 : Int32) (h : Hp) (Q : Int32 → Hp → Prop) : Prop :=
  rdI h a0 ((225 : Int32) + i1) (fun v1 => wrI h a0 ((225 : Int32) + i1) (-1 : Int32) (fun h2 => Q v1 h2))
theorem sg_X3_goCut : ySg yX3_goCut 2 = true := by decide +kernel
theorem c_X3_goCut (G : gT) (l : Launch) (a0 : Nat) (i1 : Int32) (h : Hp) (Q : Int32 → Hp → Prop) (hw : w_X3_goCut a0 i1 h Q) : Ct G l yX3_goCut (ws_ yX3_goCut cX3_goCut 3 (some .int)) 1 12 0 0 [.ref a0, .int i1] h (pI Q) := by
  refine Ct.of (own := RX3) false (by decide +kernel) rfl (show (_ : Nat) ≤ _ from Nat.le_of_ble_eq_true rfl) (fun z => by cases z) (fun V C => ?_)
  show V h 0 0 0 [(0, .ref a0), (1, .int i1)] []
  unfold w_X3_goCut at hw
  refine r_aload_n C rfl 0 rfl dX3_goCut_0 (r_sipush (v := (225 : Int32)) C (by decide) dX3_goCut_1 (r_iload_n C rfl 1 rfl dX3_goCut_4 (r_iadd C dX3_goCut_5 ?_)))
  refine r_iaload C dX3_goCut_6 hw (fun v1 hw => ?_)
  refine r_istore_n (L' := [(2, .int v1), (0, .ref a0), (1, .int i1)]) C rfl (by decide) rfl dX3_goCut_7 (r_aload_n C rfl 1 rfl dX3_goCut_8 (r_sipush (v := (225 : Int32)) C (by decide) dX3_goCut_9 (r_iload_n C rfl 2 rfl dX3_goCut_12 (r_iadd C dX3_goCut_13 (r_iconst (v := (-1 : Int32)) C (by decide) dX3_goCut_14 ?_)))))
  refine r_iastore C dX3_goCut_15 hw (fun h2 hw => ?_)
  refine r_iload_n C rfl 0 rfl dX3_goCut_16 ?_
  exact r_ireturn C dX3_goCut_17 (Nat.le_refl _) (Nat.le_refl _) ⟨_, rfl, hw⟩
def B_X3_cut_35 (Q : Int32 → Hp → Prop) (h : Hp) (x0 : Nat) (x1 : Int32) (s0 : Nat) (s1 : Int32) : Prop :=
  hasC h s0 2 ∧ (w_X3_refused s0 s1 h (fun r2 h3 => (r2 = false → hasC h3 x0 2 ∧ (w_X3_remember x0 h3 (fun h7 => gfR h7 x0 2 1 (fun v8 => nn v8 (fun y9 => w_X3_goCut y9 x1 h7 (fun r10 h11 => Q r10 h11)))))) ∧ (r2 = true → Q (0 : Int32) h3)))
def w_X3_cut (a0 : Nat) (i1 : Int32) (h : Hp) (Q : Int32 → Hp → Prop) : Prop :=
  gfR h a0 2 1 (fun v12 => nn v12 (fun y13 => w_X3_hasSeal y13 i1 h (fun r14 h15 => (r14 = true → gfR h15 a0 2 1 (fun v17 => nn v17 (fun y18 => rdI h15 y18 ((225 : Int32) + i1) (fun v19 => B_X3_cut_35 Q h15 a0 i1 a0 (if ¬ v19 = (-1 : Int32) then (0 : Int32) else (2 : Int32)))))) ∧ (r14 = false → B_X3_cut_35 Q h15 a0 i1 a0 (1 : Int32)))))
theorem b_X3_cut_35 {G : gT} {l : Launch} {V : Hp → Nat → Nat → Nat → List (Nat × Value) → List Value → Prop} {Q : Int32 → Hp → Prop} (C : Cx G l V cX3_cut 2 RX3 3 58 0 0 (pI Q) none (some .int) [] false) (h : Hp) (x0 : Nat) (x1 : Int32) (s0 : Nat) (s1 : Int32) (hw : B_X3_cut_35 Q h x0 x1 s0 s1) : V h 0 0 35 [(0, .ref x0), (1, .int x1)] [.int s1, .ref s0] := by
  unfold B_X3_cut_35 at hw
  obtain ⟨hq1, hw⟩ := hw
  refine r_callV (ci := 2) (rest := []) (As := [.int s1]) C sg_X3_refused rfl rfl q2222 q2224 qs38 q90 q2225 rfl (Nat.le_of_ble_eq_true rfl) dX3_cut_35 rfl hq1 (Nat.le_refl _) (Nat.le_refl _) (c_X3_refused G l s0 s1 h _ hw) (k_Z (fun r2 h3 hw => ?_))
  refine r_if_eq_b (tgt := 43) C (by decide) dX3_cut_38 (fun hc4 => ?_) (fun hc4 => ?_)
  · have hw := hw.1 hc4
    refine r_aload_n C rfl 0 rfl dX3_cut_43 ?_
    obtain ⟨hq5, hw⟩ := hw
    refine r_callV (ci := 2) (rest := []) (As := []) C sg_X3_remember rfl rfl q2467 q2469 qs64 q90 q2470 rfl (Nat.le_of_ble_eq_true rfl) dX3_cut_44 rfl hq5 (Nat.le_refl _) (Nat.le_refl _) (c_X3_remember G l x0 h3 _ hw) (k_V (fun h7 hw => ?_))
    refine r_aload_n C rfl 0 rfl dX3_cut_47 ?_
    refine r_gfR (k := 1) C kX3 (by decide) (Or.inl q2156) (Or.inl rfl) dX3_cut_48 hw (fun v8 hw => ?_)
    refine r_iload_n C rfl 1 rfl dX3_cut_51 ?_
    obtain ⟨y9, rfl, hw_y9⟩ := hw
    have hw := hw_y9
    refine r_callS (rest := []) (As := [.ref y9, .int x1]) C sg_X3_goCut q2506 q2507 q90 q2508 rfl (Nat.le_of_ble_eq_true rfl) dX3_cut_52 rfl (Nat.le_refl _) (Nat.le_refl _) (c_X3_goCut G l y9 x1 h7 _ hw) (k_I (fun r10 h11 hw => ?_))
    exact r_ireturn C dX3_cut_55 (Nat.le_refl _) (Nat.le_refl _) ⟨_, rfl, hw⟩
  · have hw := hw.2 hc4
    refine r_iconst (v := (0 : Int32)) C (by decide) dX3_cut_41 ?_
    exact r_ireturn C dX3_cut_42 (Nat.le_refl _) (Nat.le_refl _) ⟨_, rfl, hw⟩
theorem sg_X3_cut : ySg yX3_cut 1 = true := by decide +kernel
theorem c_X3_cut (G : gT) (l : Launch) (a0 : Nat) (i1 : Int32) (h : Hp) (Q : Int32 → Hp → Prop) (hw : w_X3_cut a0 i1 h Q) : Ct G l yX3_cut (ws_ yX3_cut cX3_cut 2 (some .int)) 3 58 0 0 [.ref a0, .int i1] h (pI Q) := by
  refine Ct.of (own := RX3) false (by decide +kernel) rfl (show (_ : Nat) ≤ _ from Nat.le_of_ble_eq_true rfl) (fun z => by cases z) (fun V C => ?_)
  show V h 0 0 0 [(0, .ref a0), (1, .int i1)] []
  unfold w_X3_cut at hw
  refine r_aload_n C rfl 0 rfl dX3_cut_0 (r_aload_n C rfl 0 rfl dX3_cut_1 ?_)
  refine r_gfR (k := 1) C kX3 (by decide) (Or.inl q2156) (Or.inl rfl) dX3_cut_2 hw (fun v12 hw => ?_)
  refine r_iload_n C rfl 1 rfl dX3_cut_5 ?_
  obtain ⟨y13, rfl, hw_y13⟩ := hw
  have hw := hw_y13
  refine r_callS (rest := [.ref a0]) (As := [.ref y13, .int i1]) C sg_X3_hasSeal q2304 q2305 q90 q2306 rfl (Nat.le_of_ble_eq_true rfl) dX3_cut_6 rfl (Nat.le_refl _) (Nat.le_refl _) (c_X3_hasSeal G l y13 i1 h _ hw) (k_Z (fun r14 h15 hw => ?_))
  refine r_if_ne_b (tgt := 16) C (by decide) dX3_cut_9 (fun hc16 => ?_) (fun hc16 => ?_)
  · have hw := hw.1 hc16
    refine r_aload_n C rfl 0 rfl dX3_cut_16 ?_
    refine r_gfR (k := 1) C kX3 (by decide) (Or.inl q2156) (Or.inl rfl) dX3_cut_17 hw (fun v17 hw => ?_)
    refine r_sipush (v := (225 : Int32)) C (by decide) dX3_cut_20 (r_iload_n C rfl 1 rfl dX3_cut_23 (r_iadd C dX3_cut_24 ?_))
    obtain ⟨y18, rfl, hw_y18⟩ := hw
    have hw := hw_y18
    refine r_iaload C dX3_cut_25 hw (fun v19 hw => ?_)
    refine r_iconst (v := (-1 : Int32)) C (by decide) dX3_cut_26 ?_
    have hJ : V h15 0 0 35 [(0, .ref a0), (1, .int i1)] [.int (if ¬ v19 = (-1 : Int32) then (0 : Int32) else (2 : Int32)), .ref a0] := by
      exact r_sub C [0, 1] rfl (b_X3_cut_35 C _ _ _ _ _ hw)
    refine r_icmp_ne (tgt := 34) C (by decide) dX3_cut_27 (fun hc20 => ?_) (fun hc20 => ?_)
    · have hJ21 := hJ
      try simp only [if_pos hc20] at hJ21
      refine r_iconst (v := (0 : Int32)) C (by decide) dX3_cut_34 ?_
      exact r_sub C [0, 1] rfl hJ21
    · have hJ21 := hJ
      try simp only [if_neg (show ¬ ¬ v19 = (-1 : Int32) from fun z => z hc20)] at hJ21
      refine r_iconst (v := (2 : Int32)) C (by decide) dX3_cut_30 (r_goto (tgt := 35) C (by decide) dX3_cut_31 ?_)
      exact r_sub C [0, 1] rfl hJ21
  · have hw := hw.2 hc16
    refine r_iconst (v := (1 : Int32)) C (by decide) dX3_cut_12 (r_goto (tgt := 35) C (by decide) dX3_cut_13 ?_)
    exact r_sub C [0, 1] rfl (b_X3_cut_35 C _ _ _ _ _ hw)
def S_X3_goTake_32 (Q : Hp → Prop) (LA32 : Hp → Nat → Int32 → Int32 → Prop) (h : Hp) (x0 : Nat) (x2 : Int32) (x4 : Int32) : Prop :=
  rdI h x0 ((249 : Int32) + x2) (fun v1 => (v1 ≤ x4 → Q h) ∧ (¬ v1 ≤ x4 → rdI h x0 ((((255 : Int32) + ((6 : Int32) * x2)) + x4) + (1 : Int32)) (fun v3 => wrI h x0 (((255 : Int32) + ((6 : Int32) * x2)) + x4) v3 (fun h4 => LA32 h4 x0 x2 (x4 + (1 : Int32))))))
def B_X3_goTake_32 (Q : Hp → Prop) : Nat → Hp → Nat → Int32 → Int32 → Prop
  | 0, _, _, _, _ => False
  | k + 1, h, x0, x2, x4 => S_X3_goTake_32 Q (B_X3_goTake_32 Q k) h x0 x2 x4
def w_X3_goTake (a0 : Nat) (i1 : Int32) (h : Hp) (Q : Hp → Prop) : Prop :=
  w_X3_shelfOf a0 i1 h (fun r5 h6 => (r5 = (-1 : Int32) → Q h6) ∧ (¬ r5 = (-1 : Int32) → w_X3_placeOn a0 i1 r5 h6 (fun r8 h9 => rdI h9 a0 ((249 : Int32) + r5) (fun v10 => wrI h9 a0 ((249 : Int32) + r5) (v10 - (1 : Int32)) (fun h11 => ∃ k9 : Nat, B_X3_goTake_32 Q k9 h11 a0 r5 r8)))))
theorem s_X3_goTake_32 {G : gT} {l : Launch} {V : Hp → Nat → Nat → Nat → List (Nat × Value) → List Value → Prop} {Q : Hp → Prop} (C : Cx G l V cX3_goTake 5 RX3 3 59 0 0 (pV Q) none (none) [] false) (LA32 : Hp → Nat → Int32 → Int32 → Prop) (hLA32 : ∀ (h : Hp) (x0 : Nat) (x2 : Int32) (x4 : Int32), LA32 h x0 x2 x4 → V h 0 0 32 [(0, .ref x0), (2, .int x2), (4, .int x4)] []) (h : Hp) (x0 : Nat) (x2 : Int32) (x4 : Int32) (hw : S_X3_goTake_32 Q LA32 h x0 x2 x4) : V h 0 0 32 [(0, .ref x0), (2, .int x2), (4, .int x4)] [] := by
  unfold S_X3_goTake_32 at hw
  refine r_iload C 2 rfl dX3_goTake_32 (r_aload_n C rfl 0 rfl dX3_goTake_34 (r_sipush (v := (249 : Int32)) C (by decide) dX3_goTake_35 (r_iload_n C rfl 1 rfl dX3_goTake_38 (r_iadd C dX3_goTake_39 ?_))))
  refine r_iaload C dX3_goTake_40 hw (fun v1 hw => ?_)
  refine r_icmp_ge (tgt := 78) C (by decide) dX3_goTake_41 (fun hc2 => ?_) (fun hc2 => ?_)
  · have hw := hw.1 hc2
    exact r_return C dX3_goTake_78 (Nat.le_refl _) (Nat.le_refl _) ⟨rfl, hw⟩
  · have hw := hw.2 hc2
    refine r_aload_n C rfl 0 rfl dX3_goTake_44 (r_sipush (v := (255 : Int32)) C (by decide) dX3_goTake_45 (r_bipush (v := (6 : Int32)) C (by decide) dX3_goTake_48 (r_iload_n C rfl 1 rfl dX3_goTake_50 (r_imul C dX3_goTake_51 (r_iadd C dX3_goTake_52 ?_)))))
    refine r_iload C 2 rfl dX3_goTake_53 (r_iadd C dX3_goTake_55 (r_aload_n C rfl 0 rfl dX3_goTake_56 (r_sipush (v := (255 : Int32)) C (by decide) dX3_goTake_57 (r_bipush (v := (6 : Int32)) C (by decide) dX3_goTake_60 (r_iload_n C rfl 1 rfl dX3_goTake_62 ?_)))))
    refine r_imul C dX3_goTake_63 (r_iadd C dX3_goTake_64 (r_iload C 2 rfl dX3_goTake_65 (r_iadd C dX3_goTake_67 (r_iconst (v := (1 : Int32)) C (by decide) dX3_goTake_68 (r_iadd C dX3_goTake_69 ?_)))))
    refine r_iaload C dX3_goTake_70 hw (fun v3 hw => ?_)
    refine r_iastore C dX3_goTake_71 hw (fun h4 hw => ?_)
    refine r_iinc (v := x4 + (1 : Int32)) (L' := [(4, .int (x4 + (1 : Int32))), (0, .ref x0), (2, .int x2)]) C (u := 2) rfl (by rfl) (by decide) rfl dX3_goTake_72 (r_goto (tgt := 32) C (by decide) dX3_goTake_75 ?_)
    exact r_sub C [1, 2, 0] rfl (hLA32 _ _ _ _ hw)
theorem b_X3_goTake_32 {G : gT} {l : Launch} {V : Hp → Nat → Nat → Nat → List (Nat × Value) → List Value → Prop} {Q : Hp → Prop} (C : Cx G l V cX3_goTake 5 RX3 3 59 0 0 (pV Q) none (none) [] false) : ∀ (k : Nat) (h : Hp) (x0 : Nat) (x2 : Int32) (x4 : Int32), B_X3_goTake_32 Q k h x0 x2 x4 → V h 0 0 32 [(0, .ref x0), (2, .int x2), (4, .int x4)] [] := by
  intro k
  induction k with
  | zero =>
    intro h x0 x2 x4 hw
    exact hw.elim
  | succ k ih =>
    intro h x0 x2 x4 hw
    exact s_X3_goTake_32 C _ (fun h x0 x2 x4 hw => ih h x0 x2 x4 hw) h x0 x2 x4 hw
theorem sg_X3_goTake : ySg yX3_goTake 2 = true := by decide +kernel
theorem c_X3_goTake (G : gT) (l : Launch) (a0 : Nat) (i1 : Int32) (h : Hp) (Q : Hp → Prop) (hw : w_X3_goTake a0 i1 h Q) : Ct G l yX3_goTake (ws_ yX3_goTake cX3_goTake 5 (none)) 3 59 0 0 [.ref a0, .int i1] h (pV Q) := by
  refine Ct.of (own := RX3) false (by decide +kernel) rfl (show (_ : Nat) ≤ _ from Nat.le_of_ble_eq_true rfl) (fun z => by cases z) (fun V C => ?_)
  show V h 0 0 0 [(0, .ref a0), (1, .int i1)] []
  unfold w_X3_goTake at hw
  refine r_aload_n C rfl 0 rfl dX3_goTake_0 (r_iload_n C rfl 1 rfl dX3_goTake_1 ?_)
  refine r_callS (rest := []) (As := [.ref a0, .int i1]) C sg_X3_shelfOf q2398 q2399 q90 q2400 rfl (Nat.le_of_ble_eq_true rfl) dX3_goTake_2 rfl (Nat.le_refl _) (Nat.le_refl _) (c_X3_shelfOf G l a0 i1 h _ hw) (k_I (fun r5 h6 hw => ?_))
  refine r_istore_n (L' := [(2, .int r5), (0, .ref a0), (1, .int i1)]) C rfl (by decide) rfl dX3_goTake_5 (r_iload_n C rfl 0 rfl dX3_goTake_6 (r_iconst (v := (-1 : Int32)) C (by decide) dX3_goTake_7 ?_))
  refine r_icmp_eq (tgt := 78) C (by decide) dX3_goTake_8 (fun hc7 => ?_) (fun hc7 => ?_)
  · have hw := hw.1 hc7
    exact r_return C dX3_goTake_78 (Nat.le_refl _) (Nat.le_refl _) ⟨rfl, hw⟩
  · have hw := hw.2 hc7
    refine r_aload_n C rfl 1 rfl dX3_goTake_11 (r_iload_n C rfl 2 rfl dX3_goTake_12 (r_iload_n C rfl 0 rfl dX3_goTake_13 ?_))
    refine r_callS (rest := []) (As := [.ref a0, .int i1, .int r5]) C sg_X3_placeOn q2401 q2402 q90 q2403 rfl (Nat.le_of_ble_eq_true rfl) dX3_goTake_14 rfl (Nat.le_refl _) (Nat.le_refl _) (c_X3_placeOn G l a0 i1 r5 h6 _ hw) (k_I (fun r8 h9 hw => ?_))
    refine r_istore_n (L' := [(3, .int r8), (2, .int r5), (0, .ref a0), (1, .int i1)]) C rfl (by decide) rfl dX3_goTake_17 (r_aload_n C rfl 2 rfl dX3_goTake_18 (r_sipush (v := (249 : Int32)) C (by decide) dX3_goTake_19 (r_iload_n C rfl 1 rfl dX3_goTake_22 (r_iadd C dX3_goTake_23 (r_dup2_11 C rfl rfl dX3_goTake_24 ?_)))))
    refine r_iaload C dX3_goTake_25 hw (fun v10 hw => ?_)
    refine r_iconst (v := (1 : Int32)) C (by decide) dX3_goTake_26 (r_isub C dX3_goTake_27 ?_)
    refine r_iastore C dX3_goTake_28 hw (fun h11 hw => ?_)
    refine r_iload_n C rfl 0 rfl dX3_goTake_29 (r_istore (L' := [(4, .int r8), (3, .int r8), (2, .int r5), (0, .ref a0), (1, .int i1)]) C (by decide) rfl dX3_goTake_30 ?_)
    obtain ⟨k9, hw⟩ := hw
    exact r_sub C [3, 2, 0] rfl (b_X3_goTake_32 C _ _ _ _ _ hw)
def S_X3_goShelve_14 (Q : Int32 → Hp → Prop) (LA14 : Hp → Nat → Int32 → Int32 → Int32 → Int32 → Prop) (h : Hp) (x0 : Nat) (x1 : Int32) (x2 : Int32) (x3 : Int32) (x4 : Int32) : Prop :=
  (x4 ≤ x3 → wrI h x0 (((255 : Int32) + ((6 : Int32) * x2)) + x3) x1 (fun h2 => rdI h2 x0 ((249 : Int32) + x2) (fun v3 => wrI h2 x0 ((249 : Int32) + x2) (v3 + (1 : Int32)) (fun h4 => rdI h4 x0 ((249 : Int32) + x2) (fun v5 => Q v5 h4))))) ∧ (¬ x4 ≤ x3 → rdI h x0 ((((255 : Int32) + ((6 : Int32) * x2)) + x4) - (1 : Int32)) (fun v6 => wrI h x0 (((255 : Int32) + ((6 : Int32) * x2)) + x4) v6 (fun h7 => LA14 h7 x0 x1 x2 x3 (x4 + (-1 : Int32)))))
def B_X3_goShelve_14 (Q : Int32 → Hp → Prop) : Nat → Hp → Nat → Int32 → Int32 → Int32 → Int32 → Prop
  | 0, _, _, _, _, _, _ => False
  | k + 1, h, x0, x1, x2, x3, x4 => S_X3_goShelve_14 Q (B_X3_goShelve_14 Q k) h x0 x1 x2 x3 x4
def w_X3_goShelve (a0 : Nat) (i1 : Int32) (i2 : Int32) (i3 : Int32) (h : Hp) (Q : Int32 → Hp → Prop) : Prop :=
  w_X3_goTake a0 i1 h (fun h9 => rdI h9 a0 ((249 : Int32) + i2) (fun v10 => ∃ k9 : Nat, B_X3_goShelve_14 Q k9 h9 a0 i1 i2 i3 v10))
theorem s_X3_goShelve_14 {G : gT} {l : Launch} {V : Hp → Nat → Nat → Nat → List (Nat × Value) → List Value → Prop} {Q : Int32 → Hp → Prop} (C : Cx G l V cX3_goShelve 5 RX3 4 83 0 0 (pI Q) none (some .int) [] false) (LA14 : Hp → Nat → Int32 → Int32 → Int32 → Int32 → Prop) (hLA14 : ∀ (h : Hp) (x0 : Nat) (x1 : Int32) (x2 : Int32) (x3 : Int32) (x4 : Int32), LA14 h x0 x1 x2 x3 x4 → V h 0 0 14 [(0, .ref x0), (1, .int x1), (2, .int x2), (3, .int x3), (4, .int x4)] []) (h : Hp) (x0 : Nat) (x1 : Int32) (x2 : Int32) (x3 : Int32) (x4 : Int32) (hw : S_X3_goShelve_14 Q LA14 h x0 x1 x2 x3 x4) : V h 0 0 14 [(0, .ref x0), (1, .int x1), (2, .int x2), (3, .int x3), (4, .int x4)] [] := by
  unfold S_X3_goShelve_14 at hw
  refine r_iload C 4 rfl dX3_goShelve_14 (r_iload_n C rfl 3 rfl dX3_goShelve_16 ?_)
  refine r_icmp_le (tgt := 54) C (by decide) dX3_goShelve_17 (fun hc1 => ?_) (fun hc1 => ?_)
  · have hw := hw.1 hc1
    refine r_aload_n C rfl 0 rfl dX3_goShelve_54 (r_sipush (v := (255 : Int32)) C (by decide) dX3_goShelve_55 (r_bipush (v := (6 : Int32)) C (by decide) dX3_goShelve_58 (r_iload_n C rfl 2 rfl dX3_goShelve_60 (r_imul C dX3_goShelve_61 (r_iadd C dX3_goShelve_62 ?_)))))
    refine r_iload_n C rfl 3 rfl dX3_goShelve_63 (r_iadd C dX3_goShelve_64 (r_iload_n C rfl 1 rfl dX3_goShelve_65 ?_))
    refine r_iastore C dX3_goShelve_66 hw (fun h2 hw => ?_)
    refine r_aload_n C rfl 0 rfl dX3_goShelve_67 (r_sipush (v := (249 : Int32)) C (by decide) dX3_goShelve_68 (r_iload_n C rfl 2 rfl dX3_goShelve_71 (r_iadd C dX3_goShelve_72 (r_dup2_11 C rfl rfl dX3_goShelve_73 ?_))))
    refine r_iaload C dX3_goShelve_74 hw (fun v3 hw => ?_)
    refine r_iconst (v := (1 : Int32)) C (by decide) dX3_goShelve_75 (r_iadd C dX3_goShelve_76 ?_)
    refine r_iastore C dX3_goShelve_77 hw (fun h4 hw => ?_)
    refine r_aload_n C rfl 0 rfl dX3_goShelve_78 (r_sipush (v := (249 : Int32)) C (by decide) dX3_goShelve_79 (r_iload_n C rfl 2 rfl dX3_goShelve_82 (r_iadd C dX3_goShelve_83 ?_)))
    refine r_iaload C dX3_goShelve_84 hw (fun v5 hw => ?_)
    exact r_ireturn C dX3_goShelve_85 (Nat.le_refl _) (Nat.le_refl _) ⟨_, rfl, hw⟩
  · have hw := hw.2 hc1
    refine r_aload_n C rfl 0 rfl dX3_goShelve_20 (r_sipush (v := (255 : Int32)) C (by decide) dX3_goShelve_21 (r_bipush (v := (6 : Int32)) C (by decide) dX3_goShelve_24 (r_iload_n C rfl 2 rfl dX3_goShelve_26 (r_imul C dX3_goShelve_27 (r_iadd C dX3_goShelve_28 ?_)))))
    refine r_iload C 4 rfl dX3_goShelve_29 (r_iadd C dX3_goShelve_31 (r_aload_n C rfl 0 rfl dX3_goShelve_32 (r_sipush (v := (255 : Int32)) C (by decide) dX3_goShelve_33 (r_bipush (v := (6 : Int32)) C (by decide) dX3_goShelve_36 (r_iload_n C rfl 2 rfl dX3_goShelve_38 ?_)))))
    refine r_imul C dX3_goShelve_39 (r_iadd C dX3_goShelve_40 (r_iload C 4 rfl dX3_goShelve_41 (r_iadd C dX3_goShelve_43 (r_iconst (v := (1 : Int32)) C (by decide) dX3_goShelve_44 (r_isub C dX3_goShelve_45 ?_)))))
    refine r_iaload C dX3_goShelve_46 hw (fun v6 hw => ?_)
    refine r_iastore C dX3_goShelve_47 hw (fun h7 hw => ?_)
    refine r_iinc (v := x4 + (-1 : Int32)) (L' := [(4, .int (x4 + (-1 : Int32))), (0, .ref x0), (1, .int x1), (2, .int x2), (3, .int x3)]) C (u := 4) rfl (by rfl) (by decide) rfl dX3_goShelve_48 (r_goto (tgt := 14) C (by decide) dX3_goShelve_51 ?_)
    exact r_sub C [1, 2, 3, 4, 0] rfl (hLA14 _ _ _ _ _ _ hw)
theorem b_X3_goShelve_14 {G : gT} {l : Launch} {V : Hp → Nat → Nat → Nat → List (Nat × Value) → List Value → Prop} {Q : Int32 → Hp → Prop} (C : Cx G l V cX3_goShelve 5 RX3 4 83 0 0 (pI Q) none (some .int) [] false) : ∀ (k : Nat) (h : Hp) (x0 : Nat) (x1 : Int32) (x2 : Int32) (x3 : Int32) (x4 : Int32), B_X3_goShelve_14 Q k h x0 x1 x2 x3 x4 → V h 0 0 14 [(0, .ref x0), (1, .int x1), (2, .int x2), (3, .int x3), (4, .int x4)] [] := by
  intro k
  induction k with
  | zero =>
    intro h x0 x1 x2 x3 x4 hw
    exact hw.elim
  | succ k ih =>
    intro h x0 x1 x2 x3 x4 hw
    exact s_X3_goShelve_14 C _ (fun h x0 x1 x2 x3 x4 hw => ih h x0 x1 x2 x3 x4 hw) h x0 x1 x2 x3 x4 hw
theorem sg_X3_goShelve : ySg yX3_goShelve 4 = true := by decide +kernel
theorem c_X3_goShelve (G : gT) (l : Launch) (a0 : Nat) (i1 : Int32) (i2 : Int32) (i3 : Int32) (h : Hp) (Q : Int32 → Hp → Prop) (hw : w_X3_goShelve a0 i1 i2 i3 h Q) : Ct G l yX3_goShelve (ws_ yX3_goShelve cX3_goShelve 5 (some .int)) 4 83 0 0 [.ref a0, .int i1, .int i2, .int i3] h (pI Q) := by
  refine Ct.of (own := RX3) false (by decide +kernel) rfl (show (_ : Nat) ≤ _ from Nat.le_of_ble_eq_true rfl) (fun z => by cases z) (fun V C => ?_)
  show V h 0 0 0 [(0, .ref a0), (1, .int i1), (2, .int i2), (3, .int i3)] []
  unfold w_X3_goShelve at hw
  refine r_aload_n C rfl 0 rfl dX3_goShelve_0 (r_iload_n C rfl 1 rfl dX3_goShelve_1 ?_)
  refine r_callS (rest := []) (As := [.ref a0, .int i1]) C sg_X3_goTake q2522 q2523 q90 q2524 rfl (Nat.le_of_ble_eq_true rfl) dX3_goShelve_2 rfl (Nat.le_refl _) (Nat.le_refl _) (c_X3_goTake G l a0 i1 h _ hw) (k_V (fun h9 hw => ?_))
  refine r_aload_n C rfl 0 rfl dX3_goShelve_5 (r_sipush (v := (249 : Int32)) C (by decide) dX3_goShelve_6 (r_iload_n C rfl 2 rfl dX3_goShelve_9 (r_iadd C dX3_goShelve_10 ?_)))
  refine r_iaload C dX3_goShelve_11 hw (fun v10 hw => ?_)
  refine r_istore (L' := [(4, .int v10), (0, .ref a0), (1, .int i1), (2, .int i2), (3, .int i3)]) C (by decide) rfl dX3_goShelve_12 ?_
  obtain ⟨k9, hw⟩ := hw
  exact r_sub C [1, 2, 3, 4, 0] rfl (b_X3_goShelve_14 C _ _ _ _ _ _ _ hw)
def w_X3_others (a0 : Nat) (i1 : Int32) (i2 : Int32) (h : Hp) (Q : Int32 → Hp → Prop) : Prop :=
  rdI h a0 ((249 : Int32) + i2) (fun v1 => w_X3_shelfOf a0 i1 h (fun r2 h3 => Q (v1 - (bI (if ¬ r2 = i2 then false else true))) h3))
theorem sg_X3_others : ySg yX3_others 3 = true := by decide +kernel
theorem c_X3_others (G : gT) (l : Launch) (a0 : Nat) (i1 : Int32) (i2 : Int32) (h : Hp) (Q : Int32 → Hp → Prop) (hw : w_X3_others a0 i1 i2 h Q) : Ct G l yX3_others (ws_ yX3_others cX3_others 3 (some .int)) 3 59 0 0 [.ref a0, .int i1, .int i2] h (pI Q) := by
  refine Ct.of (own := RX3) false (by decide +kernel) rfl (show (_ : Nat) ≤ _ from Nat.le_of_ble_eq_true rfl) (fun z => by cases z) (fun V C => ?_)
  show V h 0 0 0 [(0, .ref a0), (1, .int i1), (2, .int i2)] []
  unfold w_X3_others at hw
  refine r_aload_n C rfl 0 rfl dX3_others_0 (r_sipush (v := (249 : Int32)) C (by decide) dX3_others_1 (r_iload_n C rfl 2 rfl dX3_others_4 (r_iadd C dX3_others_5 ?_)))
  refine r_iaload C dX3_others_6 hw (fun v1 hw => ?_)
  refine r_aload_n C rfl 0 rfl dX3_others_7 (r_iload_n C rfl 1 rfl dX3_others_8 ?_)
  refine r_callS (rest := [.int v1]) (As := [.ref a0, .int i1]) C sg_X3_shelfOf q2398 q2399 q90 q2400 rfl (Nat.le_of_ble_eq_true rfl) dX3_others_9 rfl (Nat.le_refl _) (Nat.le_refl _) (c_X3_shelfOf G l a0 i1 h _ hw) (k_I (fun r2 h3 hw => ?_))
  refine r_iload_n C rfl 2 rfl dX3_others_12 ?_
  have hJ : V h3 0 0 21 [] [.int (bI (if ¬ r2 = i2 then false else true)), .int v1] := by
    refine r_isub C dX3_others_21 ?_
    exact r_ireturn C dX3_others_22 (Nat.le_refl _) (Nat.le_refl _) ⟨_, rfl, hw⟩
  refine r_icmp_ne (tgt := 20) C (by decide) dX3_others_13 (fun hc4 => ?_) (fun hc4 => ?_)
  · have hJ5 := hJ
    try simp only [if_pos hc4] at hJ5
    refine r_iconst (v := (0 : Int32)) C (by decide) dX3_others_20 ?_
    exact r_sub C [] rfl hJ5
  · have hJ5 := hJ
    try simp only [if_neg (show ¬ ¬ r2 = i2 from fun z => z hc4)] at hJ5
    refine r_iconst (v := (1 : Int32)) C (by decide) dX3_others_16 (r_goto (tgt := 21) C (by decide) dX3_others_17 ?_)
    exact r_sub C [] rfl hJ5
def B_X3_canShelve_88 (Q : Bool → Hp → Prop) (LA20 : Hp → Nat → Int32 → Int32 → Bool → Int32 → Prop) (h : Hp) (x0 : Nat) (x1 : Int32) (x2 : Int32) (x4 : Int32) (s0 : Bool) : Prop :=
  LA20 h x0 x1 x2 s0 (x4 + (1 : Int32))
def S_X3_canShelve_20 (Q : Bool → Hp → Prop) (LA20 : Hp → Nat → Int32 → Int32 → Bool → Int32 → Prop) (h : Hp) (x0 : Nat) (x1 : Int32) (x2 : Int32) (x3 : Bool) (x4 : Int32) : Prop :=
  rdI h x0 ((249 : Int32) + x2) (fun v1 => (v1 ≤ x4 → Q x3 h) ∧ (¬ v1 ≤ x4 → rdI h x0 (((255 : Int32) + ((6 : Int32) * x2)) + x4) (fun v3 => (x3 = false → B_X3_canShelve_88 Q LA20 h x0 x1 x2 x4 false) ∧ (x3 = true → (v3 = x1 → B_X3_canShelve_88 Q LA20 h x0 x1 x2 x4 true) ∧ (¬ v3 = x1 → rdI h x0 ((105 : Int32) + v3) (fun v6 => rdI h x0 ((25 : Int32) + v6) (fun v7 => rdI h x0 ((105 : Int32) + x1) (fun v8 => rdI h x0 ((25 : Int32) + v8) (fun v9 => B_X3_canShelve_88 Q LA20 h x0 x1 x2 x4 (if ¬ v7 = v9 then false else true))))))))))
def B_X3_canShelve_20 (Q : Bool → Hp → Prop) : Nat → Hp → Nat → Int32 → Int32 → Bool → Int32 → Prop
  | 0, _, _, _, _, _, _ => False
  | k + 1, h, x0, x1, x2, x3, x4 => S_X3_canShelve_20 Q (B_X3_canShelve_20 Q k) h x0 x1 x2 x3 x4
def w_X3_canShelve (a0 : Nat) (i1 : Int32) (i2 : Int32) (h : Hp) (Q : Bool → Hp → Prop) : Prop :=
  w_X3_others a0 i1 i2 h (fun r12 h13 => ∃ k9 : Nat, B_X3_canShelve_20 Q k9 h13 a0 i1 i2 (if (6 : Int32) ≤ r12 then false else true) (0 : Int32))
theorem b_X3_canShelve_88 {G : gT} {l : Launch} {V : Hp → Nat → Nat → Nat → List (Nat × Value) → List Value → Prop} {Q : Bool → Hp → Prop} (C : Cx G l V cX3_canShelve 6 RX3 4 81 0 0 (pZ Q) none (some .boolean) [] false) (LA20 : Hp → Nat → Int32 → Int32 → Bool → Int32 → Prop) (hLA20 : ∀ (h : Hp) (x0 : Nat) (x1 : Int32) (x2 : Int32) (x3 : Bool) (x4 : Int32), LA20 h x0 x1 x2 x3 x4 → V h 0 0 20 [(0, .ref x0), (1, .int x1), (2, .int x2), (3, .int (bI x3)), (4, .int x4)] []) (h : Hp) (x0 : Nat) (x1 : Int32) (x2 : Int32) (x4 : Int32) (s0 : Bool) (hw : B_X3_canShelve_88 Q LA20 h x0 x1 x2 x4 s0) : V h 0 0 88 [(0, .ref x0), (1, .int x1), (2, .int x2), (4, .int x4)] [.int (bI s0)] := by
  unfold B_X3_canShelve_88 at hw
  refine r_istore_n (L' := [(3, .int (bI s0)), (0, .ref x0), (1, .int x1), (2, .int x2), (4, .int x4)]) C rfl (by decide) rfl dX3_canShelve_88 (r_iinc (v := x4 + (1 : Int32)) (L' := [(4, .int (x4 + (1 : Int32))), (3, .int (bI s0)), (0, .ref x0), (1, .int x1), (2, .int x2)]) C (u := 4) rfl (by rfl) (by decide) rfl dX3_canShelve_89 (r_goto (tgt := 20) C (by decide) dX3_canShelve_92 ?_))
  exact r_sub C [2, 3, 4, 1, 0] rfl (hLA20 _ _ _ _ _ _ hw)
theorem s_X3_canShelve_20 {G : gT} {l : Launch} {V : Hp → Nat → Nat → Nat → List (Nat × Value) → List Value → Prop} {Q : Bool → Hp → Prop} (C : Cx G l V cX3_canShelve 6 RX3 4 81 0 0 (pZ Q) none (some .boolean) [] false) (LA20 : Hp → Nat → Int32 → Int32 → Bool → Int32 → Prop) (hLA20 : ∀ (h : Hp) (x0 : Nat) (x1 : Int32) (x2 : Int32) (x3 : Bool) (x4 : Int32), LA20 h x0 x1 x2 x3 x4 → V h 0 0 20 [(0, .ref x0), (1, .int x1), (2, .int x2), (3, .int (bI x3)), (4, .int x4)] []) (h : Hp) (x0 : Nat) (x1 : Int32) (x2 : Int32) (x3 : Bool) (x4 : Int32) (hw : S_X3_canShelve_20 Q LA20 h x0 x1 x2 x3 x4) : V h 0 0 20 [(0, .ref x0), (1, .int x1), (2, .int x2), (3, .int (bI x3)), (4, .int x4)] [] := by
  unfold S_X3_canShelve_20 at hw
  refine r_iload C 4 rfl dX3_canShelve_20 (r_aload_n C rfl 0 rfl dX3_canShelve_22 (r_sipush (v := (249 : Int32)) C (by decide) dX3_canShelve_23 (r_iload_n C rfl 2 rfl dX3_canShelve_26 (r_iadd C dX3_canShelve_27 ?_))))
  refine r_iaload C dX3_canShelve_28 hw (fun v1 hw => ?_)
  refine r_icmp_ge (tgt := 95) C (by decide) dX3_canShelve_29 (fun hc2 => ?_) (fun hc2 => ?_)
  · have hw := hw.1 hc2
    refine r_iload_n C rfl 3 rfl dX3_canShelve_95 ?_
    exact r_zreturn (x := x3) C dX3_canShelve_96 (Nat.le_refl _) (Nat.le_refl _) ⟨_, rfl, hw⟩
  · have hw := hw.2 hc2
    refine r_aload_n C rfl 0 rfl dX3_canShelve_32 (r_sipush (v := (255 : Int32)) C (by decide) dX3_canShelve_33 (r_bipush (v := (6 : Int32)) C (by decide) dX3_canShelve_36 (r_iload_n C rfl 2 rfl dX3_canShelve_38 (r_imul C dX3_canShelve_39 (r_iadd C dX3_canShelve_40 ?_)))))
    refine r_iload C 4 rfl dX3_canShelve_41 (r_iadd C dX3_canShelve_43 ?_)
    refine r_iaload C dX3_canShelve_44 hw (fun v3 hw => ?_)
    refine r_istore (L' := [(5, .int v3), (0, .ref x0), (1, .int x1), (2, .int x2), (3, .int (bI x3)), (4, .int x4)]) C (by decide) rfl dX3_canShelve_45 (r_iload_n C rfl 4 rfl dX3_canShelve_47 ?_)
    refine r_if_eq_b (tgt := 87) C (by decide) dX3_canShelve_48 (fun hc4 => ?_) (fun hc4 => ?_)
    · have hw := hw.1 hc4
      refine r_iconst (v := (0 : Int32)) C (by decide) dX3_canShelve_87 ?_
      exact r_sub C [1, 2, 3, 5] rfl (b_X3_canShelve_88 C LA20 hLA20 _ _ _ _ _ _ hw)
    · have hw := hw.2 hc4
      refine r_iload C 0 rfl dX3_canShelve_51 (r_iload_n C rfl 2 rfl dX3_canShelve_53 ?_)
      refine r_icmp_eq (tgt := 83) C (by decide) dX3_canShelve_54 (fun hc5 => ?_) (fun hc5 => ?_)
      · have hw := hw.1 hc5
        refine r_iconst (v := (1 : Int32)) C (by decide) dX3_canShelve_83 (r_goto (tgt := 88) C (by decide) dX3_canShelve_84 ?_)
        exact r_sub C [1, 2, 3, 5] rfl (b_X3_canShelve_88 C LA20 hLA20 _ _ _ _ _ _ hw)
      · have hw := hw.2 hc5
        refine r_aload_n C rfl 1 rfl dX3_canShelve_57 (r_bipush (v := (25 : Int32)) C (by decide) dX3_canShelve_58 (r_aload_n C rfl 1 rfl dX3_canShelve_60 (r_bipush (v := (105 : Int32)) C (by decide) dX3_canShelve_61 (r_iload C 0 rfl dX3_canShelve_63 (r_iadd C dX3_canShelve_65 ?_)))))
        refine r_iaload C dX3_canShelve_66 hw (fun v6 hw => ?_)
        refine r_iadd C dX3_canShelve_67 ?_
        refine r_iaload C dX3_canShelve_68 hw (fun v7 hw => ?_)
        refine r_aload_n C rfl 1 rfl dX3_canShelve_69 (r_bipush (v := (25 : Int32)) C (by decide) dX3_canShelve_70 (r_aload_n C rfl 1 rfl dX3_canShelve_72 (r_bipush (v := (105 : Int32)) C (by decide) dX3_canShelve_73 (r_iload_n C rfl 2 rfl dX3_canShelve_75 (r_iadd C dX3_canShelve_76 ?_)))))
        refine r_iaload C dX3_canShelve_77 hw (fun v8 hw => ?_)
        refine r_iadd C dX3_canShelve_78 ?_
        refine r_iaload C dX3_canShelve_79 hw (fun v9 hw => ?_)
        have hJ : V h 0 0 88 [(0, .ref x0), (1, .int x1), (2, .int x2), (4, .int x4)] [.int (bI (if ¬ v7 = v9 then false else true))] := by
          exact r_sub C [0, 1, 2, 3] rfl (b_X3_canShelve_88 C LA20 hLA20 _ _ _ _ _ _ hw)
        refine r_icmp_ne (tgt := 87) C (by decide) dX3_canShelve_80 (fun hc10 => ?_) (fun hc10 => ?_)
        · have hJ11 := hJ
          try simp only [if_pos hc10] at hJ11
          refine r_iconst (v := (0 : Int32)) C (by decide) dX3_canShelve_87 ?_
          exact r_sub C [1, 2, 3, 5] rfl hJ11
        · have hJ11 := hJ
          try simp only [if_neg (show ¬ ¬ v7 = v9 from fun z => z hc10)] at hJ11
          refine r_iconst (v := (1 : Int32)) C (by decide) dX3_canShelve_83 (r_goto (tgt := 88) C (by decide) dX3_canShelve_84 ?_)
          exact r_sub C [1, 2, 3, 5] rfl hJ11
theorem b_X3_canShelve_20 {G : gT} {l : Launch} {V : Hp → Nat → Nat → Nat → List (Nat × Value) → List Value → Prop} {Q : Bool → Hp → Prop} (C : Cx G l V cX3_canShelve 6 RX3 4 81 0 0 (pZ Q) none (some .boolean) [] false) : ∀ (k : Nat) (h : Hp) (x0 : Nat) (x1 : Int32) (x2 : Int32) (x3 : Bool) (x4 : Int32), B_X3_canShelve_20 Q k h x0 x1 x2 x3 x4 → V h 0 0 20 [(0, .ref x0), (1, .int x1), (2, .int x2), (3, .int (bI x3)), (4, .int x4)] [] := by
  intro k
  induction k with
  | zero =>
    intro h x0 x1 x2 x3 x4 hw
    exact hw.elim
  | succ k ih =>
    intro h x0 x1 x2 x3 x4 hw
    exact s_X3_canShelve_20 C _ (fun h x0 x1 x2 x3 x4 hw => ih h x0 x1 x2 x3 x4 hw) h x0 x1 x2 x3 x4 hw
theorem sg_X3_canShelve : ySg yX3_canShelve 3 = true := by decide +kernel
theorem c_X3_canShelve (G : gT) (l : Launch) (a0 : Nat) (i1 : Int32) (i2 : Int32) (h : Hp) (Q : Bool → Hp → Prop) (hw : w_X3_canShelve a0 i1 i2 h Q) : Ct G l yX3_canShelve (ws_ yX3_canShelve cX3_canShelve 6 (some .boolean)) 4 81 0 0 [.ref a0, .int i1, .int i2] h (pZ Q) := by
  refine Ct.of (own := RX3) false (by decide +kernel) rfl (show (_ : Nat) ≤ _ from Nat.le_of_ble_eq_true rfl) (fun z => by cases z) (fun V C => ?_)
  show V h 0 0 0 [(0, .ref a0), (1, .int i1), (2, .int i2)] []
  unfold w_X3_canShelve at hw
  refine r_aload_n C rfl 0 rfl dX3_canShelve_0 (r_iload_n C rfl 1 rfl dX3_canShelve_1 (r_iload_n C rfl 2 rfl dX3_canShelve_2 ?_))
  refine r_callS (rest := []) (As := [.ref a0, .int i1, .int i2]) C sg_X3_others q2513 q2514 q90 q2515 rfl (Nat.le_of_ble_eq_true rfl) dX3_canShelve_3 rfl (Nat.le_refl _) (Nat.le_refl _) (c_X3_others G l a0 i1 i2 h _ hw) (k_I (fun r12 h13 hw => ?_))
  refine r_bipush (v := (6 : Int32)) C (by decide) dX3_canShelve_6 ?_
  have hJ : V h13 0 0 16 [(0, .ref a0), (1, .int i1), (2, .int i2)] [.int (bI (if (6 : Int32) ≤ r12 then false else true))] := by
    refine r_istore_n (L' := [(3, .int (bI (if (6 : Int32) ≤ r12 then false else true))), (0, .ref a0), (1, .int i1), (2, .int i2)]) C rfl (by decide) rfl dX3_canShelve_16 (r_iconst (v := (0 : Int32)) C (by decide) dX3_canShelve_17 (r_istore (L' := [(4, .int (0 : Int32)), (3, .int (bI (if (6 : Int32) ≤ r12 then false else true))), (0, .ref a0), (1, .int i1), (2, .int i2)]) C (by decide) rfl dX3_canShelve_18 ?_))
    obtain ⟨k9, hw⟩ := hw
    exact r_sub C [2, 3, 4, 1, 0] rfl (b_X3_canShelve_20 C _ _ _ _ _ _ _ hw)
  refine r_icmp_ge (tgt := 15) C (by decide) dX3_canShelve_8 (fun hc14 => ?_) (fun hc14 => ?_)
  · have hJ15 := hJ
    try simp only [if_pos hc14] at hJ15
    refine r_iconst (v := (0 : Int32)) C (by decide) dX3_canShelve_15 ?_
    exact r_sub C [0, 1, 2] rfl hJ15
  · have hJ15 := hJ
    try simp only [if_neg hc14] at hJ15
    refine r_iconst (v := (1 : Int32)) C (by decide) dX3_canShelve_11 (r_goto (tgt := 16) C (by decide) dX3_canShelve_12 ?_)
    exact r_sub C [0, 1, 2] rfl hJ15
def B_X3_shelve_63 (Q : Int32 → Hp → Prop) (h : Hp) (x0 : Nat) (x1 : Int32) (x2 : Int32) (x3 : Int32) (s0 : Nat) (s1 : Int32) : Prop :=
  hasC h s0 2 ∧ (w_X3_refused s0 s1 h (fun r2 h3 => (r2 = false → hasC h3 x0 2 ∧ (w_X3_remember x0 h3 (fun h7 => gfR h7 x0 2 1 (fun v8 => nn v8 (fun y9 => w_X3_goShelve y9 x1 x2 x3 h7 (fun r10 h11 => Q r10 h11)))))) ∧ (r2 = true → Q (0 : Int32) h3)))
def B_X3_shelve_19 (Q : Int32 → Hp → Prop) (h : Hp) (x0 : Nat) (x1 : Int32) (x2 : Int32) (x3 : Int32) (s0 : Nat) : Prop :=
  B_X3_shelve_63 Q h x0 x1 x2 x3 s0 (1 : Int32)
def w_X3_shelve (a0 : Nat) (i1 : Int32) (i2 : Int32) (i3 : Int32) (h : Hp) (Q : Int32 → Hp → Prop) : Prop :=
  gfR h a0 2 1 (fun v12 => nn v12 (fun y13 => w_X3_hasSeal y13 i1 h (fun r14 h15 => (r14 = false → B_X3_shelve_19 Q h15 a0 i1 i2 i3 a0) ∧ (r14 = true → w_X3_isShelf i2 h15 (fun r17 h18 => (r17 = true → gfR h18 a0 2 1 (fun v20 => nn v20 (fun y21 => w_X3_others y21 i1 i2 h18 (fun r22 h23 => w_X3_in i3.toInt64 (0 : Int64) r22.toInt64 h23 (fun r24 h25 => (r24 = true → gfR h25 a0 2 1 (fun v27 => nn v27 (fun y28 => w_X3_canShelve y28 i1 i2 h25 (fun r29 h30 => B_X3_shelve_63 Q h30 a0 i1 i2 i3 a0 (if r29 = true then (0 : Int32) else (3 : Int32)))))) ∧ (r24 = false → B_X3_shelve_63 Q h25 a0 i1 i2 i3 a0 (2 : Int32))))))) ∧ (r17 = false → B_X3_shelve_19 Q h18 a0 i1 i2 i3 a0))))))
theorem b_X3_shelve_63 {G : gT} {l : Launch} {V : Hp → Nat → Nat → Nat → List (Nat × Value) → List Value → Prop} {Q : Int32 → Hp → Prop} (C : Cx G l V cX3_shelve 4 RX3 5 107 0 0 (pI Q) none (some .int) [] false) (h : Hp) (x0 : Nat) (x1 : Int32) (x2 : Int32) (x3 : Int32) (s0 : Nat) (s1 : Int32) (hw : B_X3_shelve_63 Q h x0 x1 x2 x3 s0 s1) : V h 0 0 63 [(0, .ref x0), (1, .int x1), (2, .int x2), (3, .int x3)] [.int s1, .ref s0] := by
  unfold B_X3_shelve_63 at hw
  obtain ⟨hq1, hw⟩ := hw
  refine r_callV (ci := 2) (rest := []) (As := [.int s1]) C sg_X3_refused rfl rfl q2222 q2224 qs38 q90 q2225 rfl (Nat.le_of_ble_eq_true rfl) dX3_shelve_63 rfl hq1 (Nat.le_refl _) (Nat.le_refl _) (c_X3_refused G l s0 s1 h _ hw) (k_Z (fun r2 h3 hw => ?_))
  refine r_if_eq_b (tgt := 71) C (by decide) dX3_shelve_66 (fun hc4 => ?_) (fun hc4 => ?_)
  · have hw := hw.1 hc4
    refine r_aload_n C rfl 0 rfl dX3_shelve_71 ?_
    obtain ⟨hq5, hw⟩ := hw
    refine r_callV (ci := 2) (rest := []) (As := []) C sg_X3_remember rfl rfl q2467 q2469 qs64 q90 q2470 rfl (Nat.le_of_ble_eq_true rfl) dX3_shelve_72 rfl hq5 (Nat.le_refl _) (Nat.le_refl _) (c_X3_remember G l x0 h3 _ hw) (k_V (fun h7 hw => ?_))
    refine r_aload_n C rfl 0 rfl dX3_shelve_75 ?_
    refine r_gfR (k := 1) C kX3 (by decide) (Or.inl q2156) (Or.inl rfl) dX3_shelve_76 hw (fun v8 hw => ?_)
    refine r_iload_n C rfl 1 rfl dX3_shelve_79 (r_iload_n C rfl 2 rfl dX3_shelve_80 (r_iload_n C rfl 3 rfl dX3_shelve_81 ?_))
    obtain ⟨y9, rfl, hw_y9⟩ := hw
    have hw := hw_y9
    refine r_callS (rest := []) (As := [.ref y9, .int x1, .int x2, .int x3]) C sg_X3_goShelve q2519 q2520 q90 q2521 rfl (Nat.le_of_ble_eq_true rfl) dX3_shelve_82 rfl (Nat.le_refl _) (Nat.le_refl _) (c_X3_goShelve G l y9 x1 x2 x3 h7 _ hw) (k_I (fun r10 h11 hw => ?_))
    exact r_ireturn C dX3_shelve_85 (Nat.le_refl _) (Nat.le_refl _) ⟨_, rfl, hw⟩
  · have hw := hw.2 hc4
    refine r_iconst (v := (0 : Int32)) C (by decide) dX3_shelve_69 ?_
    exact r_ireturn C dX3_shelve_70 (Nat.le_refl _) (Nat.le_refl _) ⟨_, rfl, hw⟩
theorem b_X3_shelve_19 {G : gT} {l : Launch} {V : Hp → Nat → Nat → Nat → List (Nat × Value) → List Value → Prop} {Q : Int32 → Hp → Prop} (C : Cx G l V cX3_shelve 4 RX3 5 107 0 0 (pI Q) none (some .int) [] false) (h : Hp) (x0 : Nat) (x1 : Int32) (x2 : Int32) (x3 : Int32) (s0 : Nat) (hw : B_X3_shelve_19 Q h x0 x1 x2 x3 s0) : V h 0 0 19 [(0, .ref x0), (1, .int x1), (2, .int x2), (3, .int x3)] [.ref s0] := by
  unfold B_X3_shelve_19 at hw
  refine r_iconst (v := (1 : Int32)) C (by decide) dX3_shelve_19 (r_goto (tgt := 63) C (by decide) dX3_shelve_20 ?_)
  exact r_sub C [0, 1, 2, 3] rfl (b_X3_shelve_63 C _ _ _ _ _ _ _ hw)
theorem sg_X3_shelve : ySg yX3_shelve 3 = true := by decide +kernel
theorem c_X3_shelve (G : gT) (l : Launch) (a0 : Nat) (i1 : Int32) (i2 : Int32) (i3 : Int32) (h : Hp) (Q : Int32 → Hp → Prop) (hw : w_X3_shelve a0 i1 i2 i3 h Q) : Ct G l yX3_shelve (ws_ yX3_shelve cX3_shelve 4 (some .int)) 5 107 0 0 [.ref a0, .int i1, .int i2, .int i3] h (pI Q) := by
  refine Ct.of (own := RX3) false (by decide +kernel) rfl (show (_ : Nat) ≤ _ from Nat.le_of_ble_eq_true rfl) (fun z => by cases z) (fun V C => ?_)
  show V h 0 0 0 [(0, .ref a0), (1, .int i1), (2, .int i2), (3, .int i3)] []
  unfold w_X3_shelve at hw
  refine r_aload_n C rfl 0 rfl dX3_shelve_0 (r_aload_n C rfl 0 rfl dX3_shelve_1 ?_)
  refine r_gfR (k := 1) C kX3 (by decide) (Or.inl q2156) (Or.inl rfl) dX3_shelve_2 hw (fun v12 hw => ?_)
  refine r_iload_n C rfl 1 rfl dX3_shelve_5 ?_
  obtain ⟨y13, rfl, hw_y13⟩ := hw
  have hw := hw_y13
  refine r_callS (rest := [.ref a0]) (As := [.ref y13, .int i1]) C sg_X3_hasSeal q2304 q2305 q90 q2306 rfl (Nat.le_of_ble_eq_true rfl) dX3_shelve_6 rfl (Nat.le_refl _) (Nat.le_refl _) (c_X3_hasSeal G l y13 i1 h _ hw) (k_Z (fun r14 h15 hw => ?_))
  refine r_if_eq_b (tgt := 19) C (by decide) dX3_shelve_9 (fun hc16 => ?_) (fun hc16 => ?_)
  · have hw := hw.1 hc16
    exact r_sub C [0, 1, 2, 3] rfl (b_X3_shelve_19 C _ _ _ _ _ _ hw)
  · have hw := hw.2 hc16
    refine r_iload_n C rfl 2 rfl dX3_shelve_12 ?_
    refine r_callS (rest := [.ref a0]) (As := [.int i2]) C sg_X3_isShelf q2460 q2461 q90 q2462 rfl (Nat.le_of_ble_eq_true rfl) dX3_shelve_13 rfl (Nat.le_refl _) (Nat.le_refl _) (c_X3_isShelf G l i2 h15 _ hw) (k_Z (fun r17 h18 hw => ?_))
    refine r_if_ne_b (tgt := 23) C (by decide) dX3_shelve_16 (fun hc19 => ?_) (fun hc19 => ?_)
    · have hw := hw.1 hc19
      refine r_iload_n C rfl 3 rfl dX3_shelve_23 (r_i2l C dX3_shelve_24 (r_lconst (v := (0 : Int64)) C (by decide) dX3_shelve_25 (r_aload_n C rfl 0 rfl dX3_shelve_26 ?_)))
      refine r_gfR (k := 1) C kX3 (by decide) (Or.inl q2156) (Or.inl rfl) dX3_shelve_27 hw (fun v20 hw => ?_)
      refine r_iload_n C rfl 1 rfl dX3_shelve_30 (r_iload_n C rfl 2 rfl dX3_shelve_31 ?_)
      obtain ⟨y21, rfl, hw_y21⟩ := hw
      have hw := hw_y21
      refine r_callS (rest := [.long (0 : Int64), .long i3.toInt64, .ref a0]) (As := [.ref y21, .int i1, .int i2]) C sg_X3_others q2513 q2514 q90 q2515 rfl (Nat.le_of_ble_eq_true rfl) dX3_shelve_32 rfl (Nat.le_refl _) (Nat.le_refl _) (c_X3_others G l y21 i1 i2 h18 _ hw) (k_I (fun r22 h23 hw => ?_))
      refine r_i2l C dX3_shelve_35 ?_
      refine r_callS (rest := [.ref a0]) (As := [.long i3.toInt64, .long (0 : Int64), .long r22.toInt64]) C sg_X3_in q2219 q2220 q90 q2221 rfl (Nat.le_of_ble_eq_true rfl) dX3_shelve_36 rfl (Nat.le_refl _) (Nat.le_refl _) (c_X3_in G l i3.toInt64 (0 : Int64) r22.toInt64 h23 _ hw) (k_Z (fun r24 h25 hw => ?_))
      refine r_if_ne_b (tgt := 46) C (by decide) dX3_shelve_39 (fun hc26 => ?_) (fun hc26 => ?_)
      · have hw := hw.1 hc26
        refine r_aload_n C rfl 0 rfl dX3_shelve_46 ?_
        refine r_gfR (k := 1) C kX3 (by decide) (Or.inl q2156) (Or.inl rfl) dX3_shelve_47 hw (fun v27 hw => ?_)
        refine r_iload_n C rfl 1 rfl dX3_shelve_50 (r_iload_n C rfl 2 rfl dX3_shelve_51 ?_)
        obtain ⟨y28, rfl, hw_y28⟩ := hw
        have hw := hw_y28
        refine r_callS (rest := [.ref a0]) (As := [.ref y28, .int i1, .int i2]) C sg_X3_canShelve q2516 q2517 q90 q2518 rfl (Nat.le_of_ble_eq_true rfl) dX3_shelve_52 rfl (Nat.le_refl _) (Nat.le_refl _) (c_X3_canShelve G l y28 i1 i2 h25 _ hw) (k_Z (fun r29 h30 hw => ?_))
        have hJ : V h30 0 0 63 [(0, .ref a0), (1, .int i1), (2, .int i2), (3, .int i3)] [.int (if r29 = true then (0 : Int32) else (3 : Int32)), .ref a0] := by
          exact r_sub C [0, 1, 2, 3] rfl (b_X3_shelve_63 C _ _ _ _ _ _ _ hw)
        refine r_if_ne_b (tgt := 62) C (by decide) dX3_shelve_55 (fun hc31 => ?_) (fun hc31 => ?_)
        · have hJ32 := hJ
          try simp only [if_pos hc31] at hJ32
          refine r_iconst (v := (0 : Int32)) C (by decide) dX3_shelve_62 ?_
          exact r_sub C [0, 1, 2, 3] rfl hJ32
        · have hJ32 := hJ
          try simp only [if_neg (show ¬ r29 = true from by rw [hc31]; decide)] at hJ32
          refine r_iconst (v := (3 : Int32)) C (by decide) dX3_shelve_58 (r_goto (tgt := 63) C (by decide) dX3_shelve_59 ?_)
          exact r_sub C [0, 1, 2, 3] rfl hJ32
      · have hw := hw.2 hc26
        refine r_iconst (v := (2 : Int32)) C (by decide) dX3_shelve_42 (r_goto (tgt := 63) C (by decide) dX3_shelve_43 ?_)
        exact r_sub C [0, 1, 2, 3] rfl (b_X3_shelve_63 C _ _ _ _ _ _ _ hw)
    · have hw := hw.2 hc19
      exact r_sub C [0, 1, 2, 3] rfl (b_X3_shelve_19 C _ _ _ _ _ _ hw)
def B_X3_take_33 (Q : Int32 → Hp → Prop) (h : Hp) (x0 : Nat) (x1 : Int32) (s0 : Nat) (s1 : Int32) : Prop :=
  hasC h s0 2 ∧ (w_X3_refused s0 s1 h (fun r2 h3 => (r2 = false → hasC h3 x0 2 ∧ (w_X3_remember x0 h3 (fun h7 => gfR h7 x0 2 1 (fun v8 => nn v8 (fun y9 => w_X3_shelfOf y9 x1 h7 (fun r10 h11 => gfR h11 x0 2 1 (fun v12 => nn v12 (fun y13 => w_X3_goTake y13 x1 h11 (fun h15 => Q r10 h15))))))))) ∧ (r2 = true → Q (0 : Int32) h3)))
def w_X3_take (a0 : Nat) (i1 : Int32) (h : Hp) (Q : Int32 → Hp → Prop) : Prop :=
  gfR h a0 2 1 (fun v16 => nn v16 (fun y17 => w_X3_hasSeal y17 i1 h (fun r18 h19 => (r18 = true → gfR h19 a0 2 1 (fun v21 => nn v21 (fun y22 => w_X3_shelfOf y22 i1 h19 (fun r23 h24 => B_X3_take_33 Q h24 a0 i1 a0 (if ¬ r23 = (-1 : Int32) then (0 : Int32) else (2 : Int32)))))) ∧ (r18 = false → B_X3_take_33 Q h19 a0 i1 a0 (1 : Int32)))))
theorem b_X3_take_33 {G : gT} {l : Launch} {V : Hp → Nat → Nat → Nat → List (Nat × Value) → List Value → Prop} {Q : Int32 → Hp → Prop} (C : Cx G l V cX3_take 3 RX3 4 83 0 0 (pI Q) none (some .int) [] false) (h : Hp) (x0 : Nat) (x1 : Int32) (s0 : Nat) (s1 : Int32) (hw : B_X3_take_33 Q h x0 x1 s0 s1) : V h 0 0 33 [(0, .ref x0), (1, .int x1)] [.int s1, .ref s0] := by
  unfold B_X3_take_33 at hw
  obtain ⟨hq1, hw⟩ := hw
  refine r_callV (ci := 2) (rest := []) (As := [.int s1]) C sg_X3_refused rfl rfl q2222 q2224 qs38 q90 q2225 rfl (Nat.le_of_ble_eq_true rfl) dX3_take_33 rfl hq1 (Nat.le_refl _) (Nat.le_refl _) (c_X3_refused G l s0 s1 h _ hw) (k_Z (fun r2 h3 hw => ?_))
  refine r_if_eq_b (tgt := 41) C (by decide) dX3_take_36 (fun hc4 => ?_) (fun hc4 => ?_)
  · have hw := hw.1 hc4
    refine r_aload_n C rfl 0 rfl dX3_take_41 ?_
    obtain ⟨hq5, hw⟩ := hw
    refine r_callV (ci := 2) (rest := []) (As := []) C sg_X3_remember rfl rfl q2467 q2469 qs64 q90 q2470 rfl (Nat.le_of_ble_eq_true rfl) dX3_take_42 rfl hq5 (Nat.le_refl _) (Nat.le_refl _) (c_X3_remember G l x0 h3 _ hw) (k_V (fun h7 hw => ?_))
    refine r_aload_n C rfl 0 rfl dX3_take_45 ?_
    refine r_gfR (k := 1) C kX3 (by decide) (Or.inl q2156) (Or.inl rfl) dX3_take_46 hw (fun v8 hw => ?_)
    refine r_iload_n C rfl 1 rfl dX3_take_49 ?_
    obtain ⟨y9, rfl, hw_y9⟩ := hw
    have hw := hw_y9
    refine r_callS (rest := []) (As := [.ref y9, .int x1]) C sg_X3_shelfOf q2398 q2399 q90 q2400 rfl (Nat.le_of_ble_eq_true rfl) dX3_take_50 rfl (Nat.le_refl _) (Nat.le_refl _) (c_X3_shelfOf G l y9 x1 h7 _ hw) (k_I (fun r10 h11 hw => ?_))
    refine r_istore_n (L' := [(2, .int r10), (0, .ref x0), (1, .int x1)]) C rfl (by decide) rfl dX3_take_53 (r_aload_n C rfl 1 rfl dX3_take_54 ?_)
    refine r_gfR (k := 1) C kX3 (by decide) (Or.inl q2156) (Or.inl rfl) dX3_take_55 hw (fun v12 hw => ?_)
    refine r_iload_n C rfl 2 rfl dX3_take_58 ?_
    obtain ⟨y13, rfl, hw_y13⟩ := hw
    have hw := hw_y13
    refine r_callS (rest := []) (As := [.ref y13, .int x1]) C sg_X3_goTake q2522 q2523 q90 q2524 rfl (Nat.le_of_ble_eq_true rfl) dX3_take_59 rfl (Nat.le_refl _) (Nat.le_refl _) (c_X3_goTake G l y13 x1 h11 _ hw) (k_V (fun h15 hw => ?_))
    refine r_iload_n C rfl 0 rfl dX3_take_62 ?_
    exact r_ireturn C dX3_take_63 (Nat.le_refl _) (Nat.le_refl _) ⟨_, rfl, hw⟩
  · have hw := hw.2 hc4
    refine r_iconst (v := (0 : Int32)) C (by decide) dX3_take_39 ?_
    exact r_ireturn C dX3_take_40 (Nat.le_refl _) (Nat.le_refl _) ⟨_, rfl, hw⟩
theorem sg_X3_take : ySg yX3_take 1 = true := by decide +kernel
theorem c_X3_take (G : gT) (l : Launch) (a0 : Nat) (i1 : Int32) (h : Hp) (Q : Int32 → Hp → Prop) (hw : w_X3_take a0 i1 h Q) : Ct G l yX3_take (ws_ yX3_take cX3_take 3 (some .int)) 4 83 0 0 [.ref a0, .int i1] h (pI Q) := by
  refine Ct.of (own := RX3) false (by decide +kernel) rfl (show (_ : Nat) ≤ _ from Nat.le_of_ble_eq_true rfl) (fun z => by cases z) (fun V C => ?_)
  show V h 0 0 0 [(0, .ref a0), (1, .int i1)] []
  unfold w_X3_take at hw
  refine r_aload_n C rfl 0 rfl dX3_take_0 (r_aload_n C rfl 0 rfl dX3_take_1 ?_)
  refine r_gfR (k := 1) C kX3 (by decide) (Or.inl q2156) (Or.inl rfl) dX3_take_2 hw (fun v16 hw => ?_)
  refine r_iload_n C rfl 1 rfl dX3_take_5 ?_
  obtain ⟨y17, rfl, hw_y17⟩ := hw
  have hw := hw_y17
  refine r_callS (rest := [.ref a0]) (As := [.ref y17, .int i1]) C sg_X3_hasSeal q2304 q2305 q90 q2306 rfl (Nat.le_of_ble_eq_true rfl) dX3_take_6 rfl (Nat.le_refl _) (Nat.le_refl _) (c_X3_hasSeal G l y17 i1 h _ hw) (k_Z (fun r18 h19 hw => ?_))
  refine r_if_ne_b (tgt := 16) C (by decide) dX3_take_9 (fun hc20 => ?_) (fun hc20 => ?_)
  · have hw := hw.1 hc20
    refine r_aload_n C rfl 0 rfl dX3_take_16 ?_
    refine r_gfR (k := 1) C kX3 (by decide) (Or.inl q2156) (Or.inl rfl) dX3_take_17 hw (fun v21 hw => ?_)
    refine r_iload_n C rfl 1 rfl dX3_take_20 ?_
    obtain ⟨y22, rfl, hw_y22⟩ := hw
    have hw := hw_y22
    refine r_callS (rest := [.ref a0]) (As := [.ref y22, .int i1]) C sg_X3_shelfOf q2398 q2399 q90 q2400 rfl (Nat.le_of_ble_eq_true rfl) dX3_take_21 rfl (Nat.le_refl _) (Nat.le_refl _) (c_X3_shelfOf G l y22 i1 h19 _ hw) (k_I (fun r23 h24 hw => ?_))
    refine r_iconst (v := (-1 : Int32)) C (by decide) dX3_take_24 ?_
    have hJ : V h24 0 0 33 [(0, .ref a0), (1, .int i1)] [.int (if ¬ r23 = (-1 : Int32) then (0 : Int32) else (2 : Int32)), .ref a0] := by
      exact r_sub C [0, 1] rfl (b_X3_take_33 C _ _ _ _ _ hw)
    refine r_icmp_ne (tgt := 32) C (by decide) dX3_take_25 (fun hc25 => ?_) (fun hc25 => ?_)
    · have hJ26 := hJ
      try simp only [if_pos hc25] at hJ26
      refine r_iconst (v := (0 : Int32)) C (by decide) dX3_take_32 ?_
      exact r_sub C [0, 1] rfl hJ26
    · have hJ26 := hJ
      try simp only [if_neg (show ¬ ¬ r23 = (-1 : Int32) from fun z => z hc25)] at hJ26
      refine r_iconst (v := (2 : Int32)) C (by decide) dX3_take_28 (r_goto (tgt := 33) C (by decide) dX3_take_29 ?_)
      exact r_sub C [0, 1] rfl hJ26
  · have hw := hw.2 hc20
    refine r_iconst (v := (1 : Int32)) C (by decide) dX3_take_12 (r_goto (tgt := 33) C (by decide) dX3_take_13 ?_)
    exact r_sub C [0, 1] rfl (b_X3_take_33 C _ _ _ _ _ hw)
def w_X3_rank (a0 : Nat) (a1 : Nat) (i2 : Int32) (h : Hp) (Q : Int32 → Hp → Prop) : Prop :=
  hasC h a0 2 ∧ (w_X3_fake a0 a1 i2 h (fun r2 h3 => (r2 ≤ 0 → w_X3_yearsOf a1 i2 (0 : Int32) h3 (fun r5 h6 => Q r5 h6)) ∧ (¬ r2 ≤ 0 → Q (2000 : Int32) h3)))
theorem sg_X3_rank : ySg yX3_rank 2 = true := by decide +kernel
theorem c_X3_rank (G : gT) (l : Launch) (a0 : Nat) (a1 : Nat) (i2 : Int32) (h : Hp) (Q : Int32 → Hp → Prop) (hw : w_X3_rank a0 a1 i2 h Q) : Ct G l yX3_rank (ws_ yX3_rank cX3_rank 3 (some .int)) 8 178 0 0 [.ref a0, .ref a1, .int i2] h (pI Q) := by
  refine Ct.of (own := RX3) false (by decide +kernel) rfl (show (_ : Nat) ≤ _ from Nat.le_of_ble_eq_true rfl) (fun z => by cases z) (fun V C => ?_)
  show V h 0 0 0 [(0, .ref a0), (1, .ref a1), (2, .int i2)] []
  unfold w_X3_rank at hw
  refine r_aload_n C rfl 0 rfl dX3_rank_0 (r_aload_n C rfl 1 rfl dX3_rank_1 (r_iload_n C rfl 2 rfl dX3_rank_2 ?_))
  obtain ⟨hq1, hw⟩ := hw
  refine r_callV (ci := 2) (rest := []) (As := [.ref a1, .int i2]) C sg_X3_fake rfl rfl q2339 q2341 qs54 q90 q2342 rfl (Nat.le_of_ble_eq_true rfl) dX3_rank_3 rfl hq1 (Nat.le_refl _) (Nat.le_refl _) (c_X3_fake G l a0 a1 i2 h _ hw) (k_I (fun r2 h3 hw => ?_))
  refine r_if_le (tgt := 15) C (by decide) dX3_rank_6 (fun hc4 => ?_) (fun hc4 => ?_)
  · have hw := hw.1 hc4
    refine r_aload_n C rfl 1 rfl dX3_rank_15 (r_iload_n C rfl 2 rfl dX3_rank_16 (r_iconst (v := (0 : Int32)) C (by decide) dX3_rank_17 ?_))
    refine r_callS (rest := []) (As := [.ref a1, .int i2, .int (0 : Int32)]) C sg_X3_yearsOf q2358 q2359 q90 q2360 rfl (Nat.le_of_ble_eq_true rfl) dX3_rank_18 rfl (Nat.le_refl _) (Nat.le_refl _) (c_X3_yearsOf G l a1 i2 (0 : Int32) h3 _ hw) (k_I (fun r5 h6 hw => ?_))
    exact r_ireturn C dX3_rank_21 (Nat.le_refl _) (Nat.le_refl _) ⟨_, rfl, hw⟩
  · have hw := hw.2 hc4
    refine r_sipush (v := (2000 : Int32)) C (by decide) dX3_rank_9 (r_goto (tgt := 21) C (by decide) dX3_rank_12 ?_)
    exact r_ireturn C dX3_rank_21 (Nat.le_refl _) (Nat.le_refl _) ⟨_, rfl, hw⟩
def S_X3_goSort_47 (Q : Int32 → Hp → Prop) (LA15 : Hp → Nat → Nat → Int32 → Int32 → Int32 → Int32 → Prop) (LA47 : Hp → Nat → Nat → Int32 → Int32 → Int32 → Int32 → Int32 → Int32 → Int32 → Prop) (h : Hp) (x0 : Nat) (x1 : Nat) (x2 : Int32) (x3 : Int32) (x4 : Int32) (x5 : Int32) (x6 : Int32) (x7 : Int32) (x8 : Int32) : Prop :=
  rdI h x1 ((249 : Int32) + x2) (fun v7 => (v7 ≤ x8 → gfR h x0 2 17 (fun v9 => rdI h x1 (x4 + x5) (fun v10 => nn v9 (fun y12 => wrI h y12 x6 v10 (fun h11 => LA15 h11 x0 x1 x2 (x3 + (bI (if ¬ x6 = x5 then true else false))) x4 (x5 + (1 : Int32))))))) ∧ (¬ v7 ≤ x8 → rdI h x1 (x4 + x8) (fun v15 => hasC h x0 2 ∧ (w_X3_rank x0 x1 v15 h (fun r17 h18 => LA47 h18 x0 x1 x2 x3 x4 x5 (x6 + (bI (if r17 < x7 then true else (if ¬ r17 = x7 then false else (if x5 ≤ x8 then false else true))))) x7 (x8 + (1 : Int32)))))))
def B_X3_goSort_47 (Q : Int32 → Hp → Prop) (LA15 : Hp → Nat → Nat → Int32 → Int32 → Int32 → Int32 → Prop) : Nat → Hp → Nat → Nat → Int32 → Int32 → Int32 → Int32 → Int32 → Int32 → Int32 → Prop
  | 0, _, _, _, _, _, _, _, _, _, _ => False
  | k + 1, h, x0, x1, x2, x3, x4, x5, x6, x7, x8 => S_X3_goSort_47 Q LA15 (B_X3_goSort_47 Q LA15 k) h x0 x1 x2 x3 x4 x5 x6 x7 x8
def S_X3_goSort_148 (Q : Int32 → Hp → Prop) (LA148 : Hp → Nat → Nat → Int32 → Int32 → Int32 → Int32 → Prop) (h : Hp) (x0 : Nat) (x1 : Nat) (x2 : Int32) (x3 : Int32) (x4 : Int32) (x5 : Int32) : Prop :=
  rdI h x1 ((249 : Int32) + x2) (fun v25 => (v25 ≤ x5 → Q x3 h) ∧ (¬ v25 ≤ x5 → gfR h x0 2 17 (fun v27 => nn v27 (fun y28 => rdI h y28 x5 (fun v29 => wrI h x1 (x4 + x5) v29 (fun h30 => LA148 h30 x0 x1 x2 x3 x4 (x5 + (1 : Int32))))))))
def B_X3_goSort_148 (Q : Int32 → Hp → Prop) : Nat → Hp → Nat → Nat → Int32 → Int32 → Int32 → Int32 → Prop
  | 0, _, _, _, _, _, _, _ => False
  | k + 1, h, x0, x1, x2, x3, x4, x5 => S_X3_goSort_148 Q (B_X3_goSort_148 Q k) h x0 x1 x2 x3 x4 x5
def S_X3_goSort_15 (Q : Int32 → Hp → Prop) (LA15 : Hp → Nat → Nat → Int32 → Int32 → Int32 → Int32 → Prop) (h : Hp) (x0 : Nat) (x1 : Nat) (x2 : Int32) (x3 : Int32) (x4 : Int32) (x5 : Int32) : Prop :=
  rdI h x1 ((249 : Int32) + x2) (fun v1 => (v1 ≤ x5 → ∃ k9 : Nat, B_X3_goSort_148 Q k9 h x0 x1 x2 x3 x4 (0 : Int32)) ∧ (¬ v1 ≤ x5 → rdI h x1 (x4 + x5) (fun v3 => hasC h x0 2 ∧ (w_X3_rank x0 x1 v3 h (fun r5 h6 => ∃ k9 : Nat, B_X3_goSort_47 Q LA15 k9 h6 x0 x1 x2 x3 x4 x5 (0 : Int32) r5 (0 : Int32))))))
def B_X3_goSort_15 (Q : Int32 → Hp → Prop) : Nat → Hp → Nat → Nat → Int32 → Int32 → Int32 → Int32 → Prop
  | 0, _, _, _, _, _, _, _ => False
  | k + 1, h, x0, x1, x2, x3, x4, x5 => S_X3_goSort_15 Q (B_X3_goSort_15 Q k) h x0 x1 x2 x3 x4 x5
def w_X3_goSort (a0 : Nat) (a1 : Nat) (i2 : Int32) (h : Hp) (Q : Int32 → Hp → Prop) : Prop :=
  ∃ k9 : Nat, B_X3_goSort_15 Q k9 h a0 a1 i2 (0 : Int32) ((255 : Int32) + ((6 : Int32) * i2)) (0 : Int32)
theorem s_X3_goSort_47 {G : gT} {l : Launch} {V : Hp → Nat → Nat → Nat → List (Nat × Value) → List Value → Prop} {Q : Int32 → Hp → Prop} (C : Cx G l V cX3_goSort 10 RX3 9 200 0 0 (pI Q) none (some .int) [] false) (LA15 : Hp → Nat → Nat → Int32 → Int32 → Int32 → Int32 → Prop) (hLA15 : ∀ (h : Hp) (x0 : Nat) (x1 : Nat) (x2 : Int32) (x3 : Int32) (x4 : Int32) (x5 : Int32), LA15 h x0 x1 x2 x3 x4 x5 → V h 0 0 15 [(0, .ref x0), (1, .ref x1), (2, .int x2), (3, .int x3), (4, .int x4), (5, .int x5)] []) (LA47 : Hp → Nat → Nat → Int32 → Int32 → Int32 → Int32 → Int32 → Int32 → Int32 → Prop) (hLA47 : ∀ (h : Hp) (x0 : Nat) (x1 : Nat) (x2 : Int32) (x3 : Int32) (x4 : Int32) (x5 : Int32) (x6 : Int32) (x7 : Int32) (x8 : Int32), LA47 h x0 x1 x2 x3 x4 x5 x6 x7 x8 → V h 0 0 47 [(0, .ref x0), (1, .ref x1), (2, .int x2), (3, .int x3), (4, .int x4), (5, .int x5), (6, .int x6), (7, .int x7), (8, .int x8)] []) (h : Hp) (x0 : Nat) (x1 : Nat) (x2 : Int32) (x3 : Int32) (x4 : Int32) (x5 : Int32) (x6 : Int32) (x7 : Int32) (x8 : Int32) (hw : S_X3_goSort_47 Q LA15 LA47 h x0 x1 x2 x3 x4 x5 x6 x7 x8) : V h 0 0 47 [(0, .ref x0), (1, .ref x1), (2, .int x2), (3, .int x3), (4, .int x4), (5, .int x5), (6, .int x6), (7, .int x7), (8, .int x8)] [] := by
  unfold S_X3_goSort_47 at hw
  refine r_iload C 8 rfl dX3_goSort_47 (r_aload_n C rfl 1 rfl dX3_goSort_49 (r_sipush (v := (249 : Int32)) C (by decide) dX3_goSort_50 (r_iload_n C rfl 2 rfl dX3_goSort_53 (r_iadd C dX3_goSort_54 ?_))))
  refine r_iaload C dX3_goSort_55 hw (fun v7 hw => ?_)
  refine r_icmp_ge (tgt := 110) C (by decide) dX3_goSort_56 (fun hc8 => ?_) (fun hc8 => ?_)
  · have hw := hw.1 hc8
    refine r_aload_n C rfl 0 rfl dX3_goSort_110 ?_
    refine r_gfR (k := 17) C kX3 (by decide) (Or.inl q2172) (Or.inl rfl) dX3_goSort_111 hw (fun v9 hw => ?_)
    refine r_iload C 6 rfl dX3_goSort_114 (r_aload_n C rfl 1 rfl dX3_goSort_116 (r_iload C 4 rfl dX3_goSort_117 (r_iload C 5 rfl dX3_goSort_119 (r_iadd C dX3_goSort_121 ?_))))
    refine r_iaload C dX3_goSort_122 hw (fun v10 hw => ?_)
    obtain ⟨y12, rfl, hw_y12⟩ := hw
    have hw := hw_y12
    refine r_iastore C dX3_goSort_123 hw (fun h11 hw => ?_)
    refine r_iload_n C rfl 3 rfl dX3_goSort_124 (r_iload C 6 rfl dX3_goSort_125 (r_iload C 5 rfl dX3_goSort_127 ?_))
    have hJ : V h11 0 0 137 [(0, .ref x0), (1, .ref x1), (2, .int x2), (4, .int x4), (5, .int x5)] [.int (bI (if ¬ x6 = x5 then true else false)), .int x3] := by
      refine r_iadd C dX3_goSort_137 (r_istore_n (L' := [(3, .int (x3 + (bI (if ¬ x6 = x5 then true else false)))), (0, .ref x0), (1, .ref x1), (2, .int x2), (4, .int x4), (5, .int x5)]) C rfl (by decide) rfl dX3_goSort_138 (r_iinc (v := x5 + (1 : Int32)) (L' := [(5, .int (x5 + (1 : Int32))), (3, .int (x3 + (bI (if ¬ x6 = x5 then true else false)))), (0, .ref x0), (1, .ref x1), (2, .int x2), (4, .int x4)]) C (u := 5) rfl (by rfl) (by decide) rfl dX3_goSort_139 (r_goto (tgt := 15) C (by decide) dX3_goSort_142 ?_)))
      exact r_sub C [2, 3, 4, 1, 5, 0] rfl (hLA15 _ _ _ _ _ _ _ hw)
    refine r_icmp_ne (tgt := 136) C (by decide) dX3_goSort_129 (fun hc13 => ?_) (fun hc13 => ?_)
    · have hJ14 := hJ
      try simp only [if_pos hc13] at hJ14
      refine r_iconst (v := (1 : Int32)) C (by decide) dX3_goSort_136 ?_
      exact r_sub C [0, 1, 2, 4, 5] rfl hJ14
    · have hJ14 := hJ
      try simp only [if_neg (show ¬ ¬ x6 = x5 from fun z => z hc13)] at hJ14
      refine r_iconst (v := (0 : Int32)) C (by decide) dX3_goSort_132 (r_goto (tgt := 137) C (by decide) dX3_goSort_133 ?_)
      exact r_sub C [0, 1, 2, 4, 5] rfl hJ14
  · have hw := hw.2 hc8
    refine r_aload_n C rfl 0 rfl dX3_goSort_59 (r_aload_n C rfl 1 rfl dX3_goSort_60 (r_aload_n C rfl 1 rfl dX3_goSort_61 (r_iload C 4 rfl dX3_goSort_62 (r_iload C 8 rfl dX3_goSort_64 (r_iadd C dX3_goSort_66 ?_)))))
    refine r_iaload C dX3_goSort_67 hw (fun v15 hw => ?_)
    obtain ⟨hq16, hw⟩ := hw
    refine r_callV (ci := 2) (rest := []) (As := [.ref x1, .int v15]) C sg_X3_rank rfl rfl q2537 q2539 qs66 q90 q2540 rfl (Nat.le_of_ble_eq_true rfl) dX3_goSort_68 rfl hq16 (Nat.le_refl _) (Nat.le_refl _) (c_X3_rank G l x0 x1 v15 h _ hw) (k_I (fun r17 h18 hw => ?_))
    refine r_istore (L' := [(9, .int r17), (0, .ref x0), (1, .ref x1), (2, .int x2), (3, .int x3), (4, .int x4), (5, .int x5), (6, .int x6), (7, .int x7), (8, .int x8)]) C (by decide) rfl dX3_goSort_71 (r_iload C 7 rfl dX3_goSort_73 (r_iload C 0 rfl dX3_goSort_75 (r_iload C 8 rfl dX3_goSort_77 ?_)))
    have hJ : V h18 0 0 101 [(0, .ref x0), (1, .ref x1), (2, .int x2), (3, .int x3), (4, .int x4), (5, .int x5), (7, .int x7), (8, .int x8)] [.int (bI (if r17 < x7 then true else (if ¬ r17 = x7 then false else (if x5 ≤ x8 then false else true)))), .int x6] := by
      refine r_iadd C dX3_goSort_101 (r_istore (L' := [(6, .int (x6 + (bI (if r17 < x7 then true else (if ¬ r17 = x7 then false else (if x5 ≤ x8 then false else true)))))), (0, .ref x0), (1, .ref x1), (2, .int x2), (3, .int x3), (4, .int x4), (5, .int x5), (7, .int x7), (8, .int x8)]) C (by decide) rfl dX3_goSort_102 (r_iinc (v := x8 + (1 : Int32)) (L' := [(8, .int (x8 + (1 : Int32))), (6, .int (x6 + (bI (if r17 < x7 then true else (if ¬ r17 = x7 then false else (if x5 ≤ x8 then false else true)))))), (0, .ref x0), (1, .ref x1), (2, .int x2), (3, .int x3), (4, .int x4), (5, .int x5), (7, .int x7)]) C (u := 8) rfl (by rfl) (by decide) rfl dX3_goSort_104 (r_goto (tgt := 47) C (by decide) dX3_goSort_107 ?_)))
      exact r_sub C [2, 3, 4, 5, 6, 7, 1, 8, 0] rfl (hLA47 _ _ _ _ _ _ _ _ _ _ hw)
    refine r_icmp_lt (tgt := 96) C (by decide) dX3_goSort_79 (fun hc19 => ?_) (fun hc19 => ?_)
    · have hJ20 := hJ
      try simp only [if_pos hc19] at hJ20
      refine r_iconst (v := (1 : Int32)) C (by decide) dX3_goSort_96 (r_goto (tgt := 101) C (by decide) dX3_goSort_97 ?_)
      exact r_sub C [1, 2, 3, 4, 5, 6, 8, 9] rfl hJ20
    · have hJ20 := hJ
      try simp only [if_neg hc19] at hJ20
      refine r_iload C 0 rfl dX3_goSort_82 (r_iload C 8 rfl dX3_goSort_84 ?_)
      refine r_icmp_ne (tgt := 100) C (by decide) dX3_goSort_86 (fun hc21 => ?_) (fun hc21 => ?_)
      · have hJ22 := hJ20
        try simp only [if_pos hc21] at hJ22
        refine r_iconst (v := (0 : Int32)) C (by decide) dX3_goSort_100 ?_
        exact r_sub C [1, 2, 3, 4, 5, 6, 8, 9] rfl hJ22
      · have hJ22 := hJ20
        try simp only [if_neg (show ¬ ¬ r17 = x7 from fun z => z hc21)] at hJ22
        refine r_iload C 9 rfl dX3_goSort_89 (r_iload C 6 rfl dX3_goSort_91 ?_)
        refine r_icmp_ge (tgt := 100) C (by decide) dX3_goSort_93 (fun hc23 => ?_) (fun hc23 => ?_)
        · have hJ24 := hJ22
          try simp only [if_pos hc23] at hJ24
          refine r_iconst (v := (0 : Int32)) C (by decide) dX3_goSort_100 ?_
          exact r_sub C [1, 2, 3, 4, 5, 6, 8, 9] rfl hJ24
        · have hJ24 := hJ22
          try simp only [if_neg hc23] at hJ24
          refine r_iconst (v := (1 : Int32)) C (by decide) dX3_goSort_96 (r_goto (tgt := 101) C (by decide) dX3_goSort_97 ?_)
          exact r_sub C [1, 2, 3, 4, 5, 6, 8, 9] rfl hJ24
theorem b_X3_goSort_47 {G : gT} {l : Launch} {V : Hp → Nat → Nat → Nat → List (Nat × Value) → List Value → Prop} {Q : Int32 → Hp → Prop} (C : Cx G l V cX3_goSort 10 RX3 9 200 0 0 (pI Q) none (some .int) [] false) (LA15 : Hp → Nat → Nat → Int32 → Int32 → Int32 → Int32 → Prop) (hLA15 : ∀ (h : Hp) (x0 : Nat) (x1 : Nat) (x2 : Int32) (x3 : Int32) (x4 : Int32) (x5 : Int32), LA15 h x0 x1 x2 x3 x4 x5 → V h 0 0 15 [(0, .ref x0), (1, .ref x1), (2, .int x2), (3, .int x3), (4, .int x4), (5, .int x5)] []) : ∀ (k : Nat) (h : Hp) (x0 : Nat) (x1 : Nat) (x2 : Int32) (x3 : Int32) (x4 : Int32) (x5 : Int32) (x6 : Int32) (x7 : Int32) (x8 : Int32), B_X3_goSort_47 Q LA15 k h x0 x1 x2 x3 x4 x5 x6 x7 x8 → V h 0 0 47 [(0, .ref x0), (1, .ref x1), (2, .int x2), (3, .int x3), (4, .int x4), (5, .int x5), (6, .int x6), (7, .int x7), (8, .int x8)] [] := by
  intro k
  induction k with
  | zero =>
    intro h x0 x1 x2 x3 x4 x5 x6 x7 x8 hw
    exact hw.elim
  | succ k ih =>
    intro h x0 x1 x2 x3 x4 x5 x6 x7 x8 hw
    exact s_X3_goSort_47 C LA15 hLA15 _ (fun h x0 x1 x2 x3 x4 x5 x6 x7 x8 hw => ih h x0 x1 x2 x3 x4 x5 x6 x7 x8 hw) h x0 x1 x2 x3 x4 x5 x6 x7 x8 hw
theorem s_X3_goSort_148 {G : gT} {l : Launch} {V : Hp → Nat → Nat → Nat → List (Nat × Value) → List Value → Prop} {Q : Int32 → Hp → Prop} (C : Cx G l V cX3_goSort 10 RX3 9 200 0 0 (pI Q) none (some .int) [] false) (LA148 : Hp → Nat → Nat → Int32 → Int32 → Int32 → Int32 → Prop) (hLA148 : ∀ (h : Hp) (x0 : Nat) (x1 : Nat) (x2 : Int32) (x3 : Int32) (x4 : Int32) (x5 : Int32), LA148 h x0 x1 x2 x3 x4 x5 → V h 0 0 148 [(0, .ref x0), (1, .ref x1), (2, .int x2), (3, .int x3), (4, .int x4), (5, .int x5)] []) (h : Hp) (x0 : Nat) (x1 : Nat) (x2 : Int32) (x3 : Int32) (x4 : Int32) (x5 : Int32) (hw : S_X3_goSort_148 Q LA148 h x0 x1 x2 x3 x4 x5) : V h 0 0 148 [(0, .ref x0), (1, .ref x1), (2, .int x2), (3, .int x3), (4, .int x4), (5, .int x5)] [] := by
  unfold S_X3_goSort_148 at hw
  refine r_iload C 5 rfl dX3_goSort_148 (r_aload_n C rfl 1 rfl dX3_goSort_150 (r_sipush (v := (249 : Int32)) C (by decide) dX3_goSort_151 (r_iload_n C rfl 2 rfl dX3_goSort_154 (r_iadd C dX3_goSort_155 ?_))))
  refine r_iaload C dX3_goSort_156 hw (fun v25 hw => ?_)
  refine r_icmp_ge (tgt := 180) C (by decide) dX3_goSort_157 (fun hc26 => ?_) (fun hc26 => ?_)
  · have hw := hw.1 hc26
    refine r_iload_n C rfl 3 rfl dX3_goSort_180 ?_
    exact r_ireturn C dX3_goSort_181 (Nat.le_refl _) (Nat.le_refl _) ⟨_, rfl, hw⟩
  · have hw := hw.2 hc26
    refine r_aload_n C rfl 1 rfl dX3_goSort_160 (r_iload C 4 rfl dX3_goSort_161 (r_iload C 5 rfl dX3_goSort_163 (r_iadd C dX3_goSort_165 (r_aload_n C rfl 0 rfl dX3_goSort_166 ?_))))
    refine r_gfR (k := 17) C kX3 (by decide) (Or.inl q2172) (Or.inl rfl) dX3_goSort_167 hw (fun v27 hw => ?_)
    refine r_iload C 5 rfl dX3_goSort_170 ?_
    obtain ⟨y28, rfl, hw_y28⟩ := hw
    have hw := hw_y28
    refine r_iaload C dX3_goSort_172 hw (fun v29 hw => ?_)
    refine r_iastore C dX3_goSort_173 hw (fun h30 hw => ?_)
    refine r_iinc (v := x5 + (1 : Int32)) (L' := [(5, .int (x5 + (1 : Int32))), (0, .ref x0), (1, .ref x1), (2, .int x2), (3, .int x3), (4, .int x4)]) C (u := 5) rfl (by rfl) (by decide) rfl dX3_goSort_174 (r_goto (tgt := 148) C (by decide) dX3_goSort_177 ?_)
    exact r_sub C [1, 2, 3, 4, 5, 0] rfl (hLA148 _ _ _ _ _ _ _ hw)
theorem b_X3_goSort_148 {G : gT} {l : Launch} {V : Hp → Nat → Nat → Nat → List (Nat × Value) → List Value → Prop} {Q : Int32 → Hp → Prop} (C : Cx G l V cX3_goSort 10 RX3 9 200 0 0 (pI Q) none (some .int) [] false) : ∀ (k : Nat) (h : Hp) (x0 : Nat) (x1 : Nat) (x2 : Int32) (x3 : Int32) (x4 : Int32) (x5 : Int32), B_X3_goSort_148 Q k h x0 x1 x2 x3 x4 x5 → V h 0 0 148 [(0, .ref x0), (1, .ref x1), (2, .int x2), (3, .int x3), (4, .int x4), (5, .int x5)] [] := by
  intro k
  induction k with
  | zero =>
    intro h x0 x1 x2 x3 x4 x5 hw
    exact hw.elim
  | succ k ih =>
    intro h x0 x1 x2 x3 x4 x5 hw
    exact s_X3_goSort_148 C _ (fun h x0 x1 x2 x3 x4 x5 hw => ih h x0 x1 x2 x3 x4 x5 hw) h x0 x1 x2 x3 x4 x5 hw
theorem s_X3_goSort_15 {G : gT} {l : Launch} {V : Hp → Nat → Nat → Nat → List (Nat × Value) → List Value → Prop} {Q : Int32 → Hp → Prop} (C : Cx G l V cX3_goSort 10 RX3 9 200 0 0 (pI Q) none (some .int) [] false) (LA15 : Hp → Nat → Nat → Int32 → Int32 → Int32 → Int32 → Prop) (hLA15 : ∀ (h : Hp) (x0 : Nat) (x1 : Nat) (x2 : Int32) (x3 : Int32) (x4 : Int32) (x5 : Int32), LA15 h x0 x1 x2 x3 x4 x5 → V h 0 0 15 [(0, .ref x0), (1, .ref x1), (2, .int x2), (3, .int x3), (4, .int x4), (5, .int x5)] []) (h : Hp) (x0 : Nat) (x1 : Nat) (x2 : Int32) (x3 : Int32) (x4 : Int32) (x5 : Int32) (hw : S_X3_goSort_15 Q LA15 h x0 x1 x2 x3 x4 x5) : V h 0 0 15 [(0, .ref x0), (1, .ref x1), (2, .int x2), (3, .int x3), (4, .int x4), (5, .int x5)] [] := by
  unfold S_X3_goSort_15 at hw
  refine r_iload C 5 rfl dX3_goSort_15 (r_aload_n C rfl 1 rfl dX3_goSort_17 (r_sipush (v := (249 : Int32)) C (by decide) dX3_goSort_18 (r_iload_n C rfl 2 rfl dX3_goSort_21 (r_iadd C dX3_goSort_22 ?_))))
  refine r_iaload C dX3_goSort_23 hw (fun v1 hw => ?_)
  refine r_icmp_ge (tgt := 145) C (by decide) dX3_goSort_24 (fun hc2 => ?_) (fun hc2 => ?_)
  · have hw := hw.1 hc2
    refine r_iconst (v := (0 : Int32)) C (by decide) dX3_goSort_145 (r_istore (L' := [(5, .int (0 : Int32)), (0, .ref x0), (1, .ref x1), (2, .int x2), (3, .int x3), (4, .int x4)]) C (by decide) rfl dX3_goSort_146 ?_)
    obtain ⟨k9, hw⟩ := hw
    exact r_sub C [1, 2, 3, 4, 5, 0] rfl (b_X3_goSort_148 C _ _ _ _ _ _ _ _ hw)
  · have hw := hw.2 hc2
    refine r_iconst (v := (0 : Int32)) C (by decide) dX3_goSort_27 (r_istore (L' := [(6, .int (0 : Int32)), (0, .ref x0), (1, .ref x1), (2, .int x2), (3, .int x3), (4, .int x4), (5, .int x5)]) C (by decide) rfl dX3_goSort_28 (r_aload_n C rfl 1 rfl dX3_goSort_30 (r_aload_n C rfl 2 rfl dX3_goSort_31 (r_aload_n C rfl 2 rfl dX3_goSort_32 (r_iload C 5 rfl dX3_goSort_33 ?_)))))
    refine r_iload C 6 rfl dX3_goSort_35 (r_iadd C dX3_goSort_37 ?_)
    refine r_iaload C dX3_goSort_38 hw (fun v3 hw => ?_)
    obtain ⟨hq4, hw⟩ := hw
    refine r_callV (ci := 2) (rest := []) (As := [.ref x1, .int v3]) C sg_X3_rank rfl rfl q2537 q2539 qs66 q90 q2540 rfl (Nat.le_of_ble_eq_true rfl) dX3_goSort_39 rfl hq4 (Nat.le_refl _) (Nat.le_refl _) (c_X3_rank G l x0 x1 v3 h _ hw) (k_I (fun r5 h6 hw => ?_))
    refine r_istore (L' := [(7, .int r5), (6, .int (0 : Int32)), (0, .ref x0), (1, .ref x1), (2, .int x2), (3, .int x3), (4, .int x4), (5, .int x5)]) C (by decide) rfl dX3_goSort_42 (r_iconst (v := (0 : Int32)) C (by decide) dX3_goSort_44 (r_istore (L' := [(8, .int (0 : Int32)), (7, .int r5), (6, .int (0 : Int32)), (0, .ref x0), (1, .ref x1), (2, .int x2), (3, .int x3), (4, .int x4), (5, .int x5)]) C (by decide) rfl dX3_goSort_45 ?_))
    obtain ⟨k9, hw⟩ := hw
    exact r_sub C [3, 4, 5, 6, 7, 8, 2, 1, 0] rfl (b_X3_goSort_47 C LA15 hLA15 _ _ _ _ _ _ _ _ _ _ _ hw)
theorem b_X3_goSort_15 {G : gT} {l : Launch} {V : Hp → Nat → Nat → Nat → List (Nat × Value) → List Value → Prop} {Q : Int32 → Hp → Prop} (C : Cx G l V cX3_goSort 10 RX3 9 200 0 0 (pI Q) none (some .int) [] false) : ∀ (k : Nat) (h : Hp) (x0 : Nat) (x1 : Nat) (x2 : Int32) (x3 : Int32) (x4 : Int32) (x5 : Int32), B_X3_goSort_15 Q k h x0 x1 x2 x3 x4 x5 → V h 0 0 15 [(0, .ref x0), (1, .ref x1), (2, .int x2), (3, .int x3), (4, .int x4), (5, .int x5)] [] := by
  intro k
  induction k with
  | zero =>
    intro h x0 x1 x2 x3 x4 x5 hw
    exact hw.elim
  | succ k ih =>
    intro h x0 x1 x2 x3 x4 x5 hw
    exact s_X3_goSort_15 C _ (fun h x0 x1 x2 x3 x4 x5 hw => ih h x0 x1 x2 x3 x4 x5 hw) h x0 x1 x2 x3 x4 x5 hw
theorem sg_X3_goSort : ySg yX3_goSort 2 = true := by decide +kernel
theorem c_X3_goSort (G : gT) (l : Launch) (a0 : Nat) (a1 : Nat) (i2 : Int32) (h : Hp) (Q : Int32 → Hp → Prop) (hw : w_X3_goSort a0 a1 i2 h Q) : Ct G l yX3_goSort (ws_ yX3_goSort cX3_goSort 10 (some .int)) 9 200 0 0 [.ref a0, .ref a1, .int i2] h (pI Q) := by
  refine Ct.of (own := RX3) false (by decide +kernel) rfl (show (_ : Nat) ≤ _ from Nat.le_of_ble_eq_true rfl) (fun z => by cases z) (fun V C => ?_)
  show V h 0 0 0 [(0, .ref a0), (1, .ref a1), (2, .int i2)] []
  unfold w_X3_goSort at hw
  refine r_iconst (v := (0 : Int32)) C (by decide) dX3_goSort_0 (r_istore_n (L' := [(3, .int (0 : Int32)), (0, .ref a0), (1, .ref a1), (2, .int i2)]) C rfl (by decide) rfl dX3_goSort_1 (r_sipush (v := (255 : Int32)) C (by decide) dX3_goSort_2 (r_bipush (v := (6 : Int32)) C (by decide) dX3_goSort_5 (r_iload_n C rfl 3 rfl dX3_goSort_7 (r_imul C dX3_goSort_8 ?_)))))
  refine r_iadd C dX3_goSort_9 (r_istore (L' := [(4, .int ((255 : Int32) + ((6 : Int32) * i2))), (3, .int (0 : Int32)), (0, .ref a0), (1, .ref a1), (2, .int i2)]) C (by decide) rfl dX3_goSort_10 (r_iconst (v := (0 : Int32)) C (by decide) dX3_goSort_12 (r_istore (L' := [(5, .int (0 : Int32)), (4, .int ((255 : Int32) + ((6 : Int32) * i2))), (3, .int (0 : Int32)), (0, .ref a0), (1, .ref a1), (2, .int i2)]) C (by decide) rfl dX3_goSort_13 ?_)))
  obtain ⟨k9, hw⟩ := hw
  exact r_sub C [3, 4, 5, 2, 1, 0] rfl (b_X3_goSort_15 C _ _ _ _ _ _ _ _ hw)
def w_X3_sort (a0 : Nat) (i1 : Int32) (h : Hp) (Q : Int32 → Hp → Prop) : Prop :=
  w_X3_isShelf i1 h (fun r1 h2 => hasC h2 a0 2 ∧ (w_X3_refused a0 (bI (if r1 = false then true else false)) h2 (fun r4 h5 => (r4 = false → hasC h5 a0 2 ∧ (w_X3_remember a0 h5 (fun h9 => gfR h9 a0 2 1 (fun v10 => nn v10 (fun y11 => hasC h9 a0 2 ∧ (w_X3_goSort a0 y11 i1 h9 (fun r13 h14 => Q r13 h14))))))) ∧ (r4 = true → Q (0 : Int32) h5))))
theorem sg_X3_sort : ySg yX3_sort 1 = true := by decide +kernel
theorem c_X3_sort (G : gT) (l : Launch) (a0 : Nat) (i1 : Int32) (h : Hp) (Q : Int32 → Hp → Prop) (hw : w_X3_sort a0 i1 h Q) : Ct G l yX3_sort (ws_ yX3_sort cX3_sort 2 (some .int)) 10 229 0 0 [.ref a0, .int i1] h (pI Q) := by
  refine Ct.of (own := RX3) false (by decide +kernel) rfl (show (_ : Nat) ≤ _ from Nat.le_of_ble_eq_true rfl) (fun z => by cases z) (fun V C => ?_)
  show V h 0 0 0 [(0, .ref a0), (1, .int i1)] []
  unfold w_X3_sort at hw
  refine r_aload_n C rfl 0 rfl dX3_sort_0 (r_iload_n C rfl 1 rfl dX3_sort_1 ?_)
  refine r_callS (rest := [.ref a0]) (As := [.int i1]) C sg_X3_isShelf q2460 q2461 q90 q2462 rfl (Nat.le_of_ble_eq_true rfl) dX3_sort_2 rfl (Nat.le_refl _) (Nat.le_refl _) (c_X3_isShelf G l i1 h _ hw) (k_Z (fun r1 h2 hw => ?_))
  have hJ : V h2 0 0 13 [(0, .ref a0), (1, .int i1)] [.int (bI (if r1 = false then true else false)), .ref a0] := by
    obtain ⟨hq3, hw⟩ := hw
    refine r_callV (ci := 2) (rest := []) (As := [.int (bI (if r1 = false then true else false))]) C sg_X3_refused rfl rfl q2222 q2224 qs38 q90 q2225 rfl (Nat.le_of_ble_eq_true rfl) dX3_sort_13 rfl hq3 (Nat.le_refl _) (Nat.le_refl _) (c_X3_refused G l a0 (bI (if r1 = false then true else false)) h2 _ hw) (k_Z (fun r4 h5 hw => ?_))
    refine r_if_eq_b (tgt := 21) C (by decide) dX3_sort_16 (fun hc6 => ?_) (fun hc6 => ?_)
    · have hw := hw.1 hc6
      refine r_aload_n C rfl 0 rfl dX3_sort_21 ?_
      obtain ⟨hq7, hw⟩ := hw
      refine r_callV (ci := 2) (rest := []) (As := []) C sg_X3_remember rfl rfl q2467 q2469 qs64 q90 q2470 rfl (Nat.le_of_ble_eq_true rfl) dX3_sort_22 rfl hq7 (Nat.le_refl _) (Nat.le_refl _) (c_X3_remember G l a0 h5 _ hw) (k_V (fun h9 hw => ?_))
      refine r_aload_n C rfl 0 rfl dX3_sort_25 (r_aload_n C rfl 0 rfl dX3_sort_26 ?_)
      refine r_gfR (k := 1) C kX3 (by decide) (Or.inl q2156) (Or.inl rfl) dX3_sort_27 hw (fun v10 hw => ?_)
      refine r_iload_n C rfl 1 rfl dX3_sort_30 ?_
      obtain ⟨y11, rfl, hw_y11⟩ := hw
      have hw := hw_y11
      obtain ⟨hq12, hw⟩ := hw
      refine r_callV (ci := 2) (rest := []) (As := [.ref y11, .int i1]) C sg_X3_goSort rfl rfl q2533 q2535 qs65 q90 q2536 rfl (Nat.le_of_ble_eq_true rfl) dX3_sort_31 rfl hq12 (Nat.le_refl _) (Nat.le_refl _) (c_X3_goSort G l a0 y11 i1 h9 _ hw) (k_I (fun r13 h14 hw => ?_))
      exact r_ireturn C dX3_sort_34 (Nat.le_refl _) (Nat.le_refl _) ⟨_, rfl, hw⟩
    · have hw := hw.2 hc6
      refine r_iconst (v := (0 : Int32)) C (by decide) dX3_sort_19 ?_
      exact r_ireturn C dX3_sort_20 (Nat.le_refl _) (Nat.le_refl _) ⟨_, rfl, hw⟩
  refine r_if_eq_b (tgt := 12) C (by decide) dX3_sort_5 (fun hc15 => ?_) (fun hc15 => ?_)
  · have hJ16 := hJ
    try simp only [if_pos hc15] at hJ16
    refine r_iconst (v := (1 : Int32)) C (by decide) dX3_sort_12 ?_
    exact r_sub C [0, 1] rfl hJ16
  · have hJ16 := hJ
    try simp only [if_neg (show ¬ r1 = false from by rw [hc15]; decide)] at hJ16
    refine r_iconst (v := (0 : Int32)) C (by decide) dX3_sort_8 (r_goto (tgt := 13) C (by decide) dX3_sort_9 ?_)
    exact r_sub C [0, 1] rfl hJ16
def w_X3_goSet (a0 : Nat) (i1 : Int32) (i2 : Int32) (h : Hp) (Q : Int32 → Hp → Prop) : Prop :=
  rdI h a0 ((3 : Int32) + i1) (fun v1 => wrI h a0 ((3 : Int32) + i1) i2 (fun h2 => Q v1 h2))
theorem sg_X3_goSet : ySg yX3_goSet 3 = true := by decide +kernel
theorem c_X3_goSet (G : gT) (l : Launch) (a0 : Nat) (i1 : Int32) (i2 : Int32) (h : Hp) (Q : Int32 → Hp → Prop) (hw : w_X3_goSet a0 i1 i2 h Q) : Ct G l yX3_goSet (ws_ yX3_goSet cX3_goSet 4 (some .int)) 1 12 0 0 [.ref a0, .int i1, .int i2] h (pI Q) := by
  refine Ct.of (own := RX3) false (by decide +kernel) rfl (show (_ : Nat) ≤ _ from Nat.le_of_ble_eq_true rfl) (fun z => by cases z) (fun V C => ?_)
  show V h 0 0 0 [(0, .ref a0), (1, .int i1), (2, .int i2)] []
  unfold w_X3_goSet at hw
  refine r_aload_n C rfl 0 rfl dX3_goSet_0 (r_iconst (v := (3 : Int32)) C (by decide) dX3_goSet_1 (r_iload_n C rfl 1 rfl dX3_goSet_2 (r_iadd C dX3_goSet_3 ?_)))
  refine r_iaload C dX3_goSet_4 hw (fun v1 hw => ?_)
  refine r_istore_n (L' := [(3, .int v1), (0, .ref a0), (1, .int i1), (2, .int i2)]) C rfl (by decide) rfl dX3_goSet_5 (r_aload_n C rfl 1 rfl dX3_goSet_6 (r_iconst (v := (3 : Int32)) C (by decide) dX3_goSet_7 (r_iload_n C rfl 2 rfl dX3_goSet_8 (r_iadd C dX3_goSet_9 (r_iload_n C rfl 3 rfl dX3_goSet_10 ?_)))))
  refine r_iastore C dX3_goSet_11 hw (fun h2 hw => ?_)
  refine r_iload_n C rfl 0 rfl dX3_goSet_12 ?_
  exact r_ireturn C dX3_goSet_13 (Nat.le_refl _) (Nat.le_refl _) ⟨_, rfl, hw⟩
def B_X3_set_28 (Q : Int32 → Hp → Prop) (h : Hp) (x0 : Nat) (x1 : Int32) (x2 : Int32) (s0 : Nat) (s1 : Bool) : Prop :=
  hasC h s0 2 ∧ (w_X3_refused s0 (bI s1) h (fun r2 h3 => (r2 = false → hasC h3 x0 2 ∧ (w_X3_remember x0 h3 (fun h7 => gfR h7 x0 2 1 (fun v8 => nn v8 (fun y9 => w_X3_goSet y9 x1 x2 h7 (fun r10 h11 => Q r10 h11)))))) ∧ (r2 = true → Q (0 : Int32) h3)))
def w_X3_set (a0 : Nat) (i1 : Int32) (i2 : Int32) (h : Hp) (Q : Int32 → Hp → Prop) : Prop :=
  w_X3_in i1.toInt64 (0 : Int64) (1 : Int64) h (fun r12 h13 => (r12 = false → B_X3_set_28 Q h13 a0 i1 i2 a0 true) ∧ (r12 = true → w_X3_in i2.toInt64 (0 : Int64) (99 : Int64) h13 (fun r15 h16 => B_X3_set_28 Q h16 a0 i1 i2 a0 (if r15 = false then true else false))))
theorem b_X3_set_28 {G : gT} {l : Launch} {V : Hp → Nat → Nat → Nat → List (Nat × Value) → List Value → Prop} {Q : Int32 → Hp → Prop} (C : Cx G l V cX3_set 3 RX3 2 37 0 0 (pI Q) none (some .int) [] false) (h : Hp) (x0 : Nat) (x1 : Int32) (x2 : Int32) (s0 : Nat) (s1 : Bool) (hw : B_X3_set_28 Q h x0 x1 x2 s0 s1) : V h 0 0 28 [(0, .ref x0), (1, .int x1), (2, .int x2)] [.int (bI s1), .ref s0] := by
  unfold B_X3_set_28 at hw
  obtain ⟨hq1, hw⟩ := hw
  refine r_callV (ci := 2) (rest := []) (As := [.int (bI s1)]) C sg_X3_refused rfl rfl q2222 q2224 qs38 q90 q2225 rfl (Nat.le_of_ble_eq_true rfl) dX3_set_28 rfl hq1 (Nat.le_refl _) (Nat.le_refl _) (c_X3_refused G l s0 (bI s1) h _ hw) (k_Z (fun r2 h3 hw => ?_))
  refine r_if_eq_b (tgt := 36) C (by decide) dX3_set_31 (fun hc4 => ?_) (fun hc4 => ?_)
  · have hw := hw.1 hc4
    refine r_aload_n C rfl 0 rfl dX3_set_36 ?_
    obtain ⟨hq5, hw⟩ := hw
    refine r_callV (ci := 2) (rest := []) (As := []) C sg_X3_remember rfl rfl q2467 q2469 qs64 q90 q2470 rfl (Nat.le_of_ble_eq_true rfl) dX3_set_37 rfl hq5 (Nat.le_refl _) (Nat.le_refl _) (c_X3_remember G l x0 h3 _ hw) (k_V (fun h7 hw => ?_))
    refine r_aload_n C rfl 0 rfl dX3_set_40 ?_
    refine r_gfR (k := 1) C kX3 (by decide) (Or.inl q2156) (Or.inl rfl) dX3_set_41 hw (fun v8 hw => ?_)
    refine r_iload_n C rfl 1 rfl dX3_set_44 (r_iload_n C rfl 2 rfl dX3_set_45 ?_)
    obtain ⟨y9, rfl, hw_y9⟩ := hw
    have hw := hw_y9
    refine r_callS (rest := []) (As := [.ref y9, .int x1, .int x2]) C sg_X3_goSet q2545 q2546 q90 q2547 rfl (Nat.le_of_ble_eq_true rfl) dX3_set_46 rfl (Nat.le_refl _) (Nat.le_refl _) (c_X3_goSet G l y9 x1 x2 h7 _ hw) (k_I (fun r10 h11 hw => ?_))
    exact r_ireturn C dX3_set_49 (Nat.le_refl _) (Nat.le_refl _) ⟨_, rfl, hw⟩
  · have hw := hw.2 hc4
    refine r_iconst (v := (0 : Int32)) C (by decide) dX3_set_34 ?_
    exact r_ireturn C dX3_set_35 (Nat.le_refl _) (Nat.le_refl _) ⟨_, rfl, hw⟩
theorem sg_X3_set : ySg yX3_set 2 = true := by decide +kernel
theorem c_X3_set (G : gT) (l : Launch) (a0 : Nat) (i1 : Int32) (i2 : Int32) (h : Hp) (Q : Int32 → Hp → Prop) (hw : w_X3_set a0 i1 i2 h Q) : Ct G l yX3_set (ws_ yX3_set cX3_set 3 (some .int)) 2 37 0 0 [.ref a0, .int i1, .int i2] h (pI Q) := by
  refine Ct.of (own := RX3) false (by decide +kernel) rfl (show (_ : Nat) ≤ _ from Nat.le_of_ble_eq_true rfl) (fun z => by cases z) (fun V C => ?_)
  show V h 0 0 0 [(0, .ref a0), (1, .int i1), (2, .int i2)] []
  unfold w_X3_set at hw
  refine r_aload_n C rfl 0 rfl dX3_set_0 (r_iload_n C rfl 1 rfl dX3_set_1 (r_i2l C dX3_set_2 (r_lconst (v := (0 : Int64)) C (by decide) dX3_set_3 (r_lconst (v := (1 : Int64)) C (by decide) dX3_set_4 ?_))))
  refine r_callS (rest := [.ref a0]) (As := [.long i1.toInt64, .long (0 : Int64), .long (1 : Int64)]) C sg_X3_in q2219 q2220 q90 q2221 rfl (Nat.le_of_ble_eq_true rfl) dX3_set_5 rfl (Nat.le_refl _) (Nat.le_refl _) (c_X3_in G l i1.toInt64 (0 : Int64) (1 : Int64) h _ hw) (k_Z (fun r12 h13 hw => ?_))
  refine r_if_eq_b (tgt := 27) C (by decide) dX3_set_8 (fun hc14 => ?_) (fun hc14 => ?_)
  · have hw := hw.1 hc14
    refine r_iconst (v := (1 : Int32)) C (by decide) dX3_set_27 ?_
    exact r_sub C [0, 1, 2] rfl (b_X3_set_28 C _ _ _ _ _ _ hw)
  · have hw := hw.2 hc14
    refine r_iload_n C rfl 2 rfl dX3_set_11 (r_i2l C dX3_set_12 (r_lconst (v := (0 : Int64)) C (by decide) dX3_set_13 (r_ldc2 (v := (99 : Int64)) C q2490 dX3_set_14 ?_)))
    refine r_callS (rest := [.ref a0]) (As := [.long i2.toInt64, .long (0 : Int64), .long (99 : Int64)]) C sg_X3_in q2219 q2220 q90 q2221 rfl (Nat.le_of_ble_eq_true rfl) dX3_set_17 rfl (Nat.le_refl _) (Nat.le_refl _) (c_X3_in G l i2.toInt64 (0 : Int64) (99 : Int64) h13 _ hw) (k_Z (fun r15 h16 hw => ?_))
    have hJ : V h16 0 0 28 [(0, .ref a0), (1, .int i1), (2, .int i2)] [.int (bI (if r15 = false then true else false)), .ref a0] := by
      exact r_sub C [0, 1, 2] rfl (b_X3_set_28 C _ _ _ _ _ _ hw)
    refine r_if_eq_b (tgt := 27) C (by decide) dX3_set_20 (fun hc17 => ?_) (fun hc17 => ?_)
    · have hJ18 := hJ
      try simp only [if_pos hc17] at hJ18
      refine r_iconst (v := (1 : Int32)) C (by decide) dX3_set_27 ?_
      exact r_sub C [0, 1, 2] rfl hJ18
    · have hJ18 := hJ
      try simp only [if_neg (show ¬ r15 = false from by rw [hc17]; decide)] at hJ18
      refine r_iconst (v := (0 : Int32)) C (by decide) dX3_set_23 (r_goto (tgt := 28) C (by decide) dX3_set_24 ?_)
      exact r_sub C [0, 1, 2] rfl hJ18
def S_X3_undo_33 (Q : Int32 → Hp → Prop) (LA33 : Hp → Nat → Int32 → Prop) (h : Hp) (x0 : Nat) (x1 : Int32) : Prop :=
  ((291 : Int32) ≤ x1 → gfI h x0 2 5 (fun v2 => Q v2 h)) ∧ (¬ (291 : Int32) ≤ x1 → gfR h x0 2 1 (fun v3 => gfR h x0 2 4 (fun v4 => gfI h x0 2 5 (fun v5 => nn v4 (fun y6 => rdI h y6 (((291 : Int32) * v5) + x1) (fun v7 => nn v3 (fun y9 => wrI h y9 x1 v7 (fun h8 => LA33 h8 x0 (x1 + (1 : Int32))))))))))
def B_X3_undo_33 (Q : Int32 → Hp → Prop) : Nat → Hp → Nat → Int32 → Prop
  | 0, _, _, _ => False
  | k + 1, h, x0, x1 => S_X3_undo_33 Q (B_X3_undo_33 Q k) h x0 x1
def w_X3_undo (a0 : Nat) (h : Hp) (Q : Int32 → Hp → Prop) : Prop :=
  gfI h a0 2 5 (fun v10 => hasC h a0 2 ∧ (w_X3_refused a0 (bI (if ¬ v10 = 0 then false else true)) h (fun r12 h13 => (r12 = false → gfI h13 a0 2 5 (fun v15 => pf h13 a0 2 5 (.int (v15 - (1 : Int32))) (fun h16 => ∃ k9 : Nat, B_X3_undo_33 Q k9 h16 a0 (0 : Int32)))) ∧ (r12 = true → Q (0 : Int32) h13))))
theorem s_X3_undo_33 {G : gT} {l : Launch} {V : Hp → Nat → Nat → Nat → List (Nat × Value) → List Value → Prop} {Q : Int32 → Hp → Prop} (C : Cx G l V cX3_undo 2 RX3 2 33 0 0 (pI Q) none (some .int) [] false) (LA33 : Hp → Nat → Int32 → Prop) (hLA33 : ∀ (h : Hp) (x0 : Nat) (x1 : Int32), LA33 h x0 x1 → V h 0 0 33 [(0, .ref x0), (1, .int x1)] []) (h : Hp) (x0 : Nat) (x1 : Int32) (hw : S_X3_undo_33 Q LA33 h x0 x1) : V h 0 0 33 [(0, .ref x0), (1, .int x1)] [] := by
  unfold S_X3_undo_33 at hw
  refine r_iload_n C rfl 1 rfl dX3_undo_33 (r_sipush (v := (291 : Int32)) C (by decide) dX3_undo_34 ?_)
  refine r_icmp_ge (tgt := 67) C (by decide) dX3_undo_37 (fun hc1 => ?_) (fun hc1 => ?_)
  · have hw := hw.1 hc1
    refine r_aload_n C rfl 0 rfl dX3_undo_67 ?_
    refine r_gfI (k := 5) C kX3 (by decide) (Or.inl q2160) (Or.inl rfl) dX3_undo_68 hw (fun v2 hw => ?_)
    exact r_ireturn C dX3_undo_71 (Nat.le_refl _) (Nat.le_refl _) ⟨_, rfl, hw⟩
  · have hw := hw.2 hc1
    refine r_aload_n C rfl 0 rfl dX3_undo_40 ?_
    refine r_gfR (k := 1) C kX3 (by decide) (Or.inl q2156) (Or.inl rfl) dX3_undo_41 hw (fun v3 hw => ?_)
    refine r_iload_n C rfl 1 rfl dX3_undo_44 (r_aload_n C rfl 0 rfl dX3_undo_45 ?_)
    refine r_gfR (k := 4) C kX3 (by decide) (Or.inl q2159) (Or.inl rfl) dX3_undo_46 hw (fun v4 hw => ?_)
    refine r_sipush (v := (291 : Int32)) C (by decide) dX3_undo_49 (r_aload_n C rfl 0 rfl dX3_undo_52 ?_)
    refine r_gfI (k := 5) C kX3 (by decide) (Or.inl q2160) (Or.inl rfl) dX3_undo_53 hw (fun v5 hw => ?_)
    refine r_imul C dX3_undo_56 (r_iload_n C rfl 1 rfl dX3_undo_57 (r_iadd C dX3_undo_58 ?_))
    obtain ⟨y6, rfl, hw_y6⟩ := hw
    have hw := hw_y6
    refine r_iaload C dX3_undo_59 hw (fun v7 hw => ?_)
    obtain ⟨y9, rfl, hw_y9⟩ := hw
    have hw := hw_y9
    refine r_iastore C dX3_undo_60 hw (fun h8 hw => ?_)
    refine r_iinc (v := x1 + (1 : Int32)) (L' := [(1, .int (x1 + (1 : Int32))), (0, .ref x0)]) C (u := 1) rfl (by rfl) (by decide) rfl dX3_undo_61 (r_goto (tgt := 33) C (by decide) dX3_undo_64 ?_)
    exact r_sub C [1, 0] rfl (hLA33 _ _ _ hw)
theorem b_X3_undo_33 {G : gT} {l : Launch} {V : Hp → Nat → Nat → Nat → List (Nat × Value) → List Value → Prop} {Q : Int32 → Hp → Prop} (C : Cx G l V cX3_undo 2 RX3 2 33 0 0 (pI Q) none (some .int) [] false) : ∀ (k : Nat) (h : Hp) (x0 : Nat) (x1 : Int32), B_X3_undo_33 Q k h x0 x1 → V h 0 0 33 [(0, .ref x0), (1, .int x1)] [] := by
  intro k
  induction k with
  | zero =>
    intro h x0 x1 hw
    exact hw.elim
  | succ k ih =>
    intro h x0 x1 hw
    exact s_X3_undo_33 C _ (fun h x0 x1 hw => ih h x0 x1 hw) h x0 x1 hw
theorem sg_X3_undo : ySg yX3_undo 0 = true := by decide +kernel
theorem c_X3_undo (G : gT) (l : Launch) (a0 : Nat) (h : Hp) (Q : Int32 → Hp → Prop) (hw : w_X3_undo a0 h Q) : Ct G l yX3_undo (ws_ yX3_undo cX3_undo 2 (some .int)) 2 33 0 0 [.ref a0] h (pI Q) := by
  refine Ct.of (own := RX3) false (by decide +kernel) rfl (show (_ : Nat) ≤ _ from Nat.le_of_ble_eq_true rfl) (fun z => by cases z) (fun V C => ?_)
  show V h 0 0 0 [(0, .ref a0)] []
  unfold w_X3_undo at hw
  refine r_aload_n C rfl 0 rfl dX3_undo_0 (r_aload_n C rfl 0 rfl dX3_undo_1 ?_)
  refine r_gfI (k := 5) C kX3 (by decide) (Or.inl q2160) (Or.inl rfl) dX3_undo_2 hw (fun v10 hw => ?_)
  have hJ : V h 0 0 13 [(0, .ref a0)] [.int (bI (if ¬ v10 = 0 then false else true)), .ref a0] := by
    obtain ⟨hq11, hw⟩ := hw
    refine r_callV (ci := 2) (rest := []) (As := [.int (bI (if ¬ v10 = 0 then false else true))]) C sg_X3_refused rfl rfl q2222 q2224 qs38 q90 q2225 rfl (Nat.le_of_ble_eq_true rfl) dX3_undo_13 rfl hq11 (Nat.le_refl _) (Nat.le_refl _) (c_X3_refused G l a0 (bI (if ¬ v10 = 0 then false else true)) h _ hw) (k_Z (fun r12 h13 hw => ?_))
    refine r_if_eq_b (tgt := 21) C (by decide) dX3_undo_16 (fun hc14 => ?_) (fun hc14 => ?_)
    · have hw := hw.1 hc14
      refine r_aload_n C rfl 0 rfl dX3_undo_21 (r_dup C rfl dX3_undo_22 ?_)
      refine r_gfI (k := 5) C kX3 (by decide) (Or.inl q2160) (Or.inl rfl) dX3_undo_23 hw (fun v15 hw => ?_)
      refine r_iconst (v := (1 : Int32)) C (by decide) dX3_undo_26 (r_isub C dX3_undo_27 ?_)
      refine r_pf (k := 5) (v := .int (v15 - (1 : Int32))) C kX3 (by decide) (Or.inl q2160) (Or.inl rfl) (Or.inl rfl) rfl rfl dX3_undo_28 hw (fun h16 hw => ?_)
      refine r_iconst (v := (0 : Int32)) C (by decide) dX3_undo_31 (r_istore_n (L' := [(1, .int (0 : Int32)), (0, .ref a0)]) C rfl (by decide) rfl dX3_undo_32 ?_)
      obtain ⟨k9, hw⟩ := hw
      exact r_sub C [1, 0] rfl (b_X3_undo_33 C _ _ _ _ hw)
    · have hw := hw.2 hc14
      refine r_iconst (v := (0 : Int32)) C (by decide) dX3_undo_19 ?_
      exact r_ireturn C dX3_undo_20 (Nat.le_refl _) (Nat.le_refl _) ⟨_, rfl, hw⟩
  refine r_if_ne (tgt := 12) C (by decide) dX3_undo_5 (fun hc17 => ?_) (fun hc17 => ?_)
  · have hJ18 := hJ
    try simp only [if_pos hc17] at hJ18
    refine r_iconst (v := (0 : Int32)) C (by decide) dX3_undo_12 ?_
    exact r_sub C [0] rfl hJ18
  · have hJ18 := hJ
    try simp only [if_neg (show ¬ ¬ v10 = 0 from fun z => z hc17)] at hJ18
    refine r_iconst (v := (1 : Int32)) C (by decide) dX3_undo_8 (r_goto (tgt := 13) C (by decide) dX3_undo_9 ?_)
    exact r_sub C [0] rfl hJ18
def B_X3_older_28 (Q : Int32 → Hp → Prop) (h : Hp) (x0 : Nat) (x1 : Int32) (x2 : Int32) (s0 : Nat) (s1 : Bool) : Prop :=
  hasC h s0 2 ∧ (w_X3_refused s0 (bI s1) h (fun r2 h3 => (r2 = false → gfR h3 x0 2 1 (fun v5 => nn v5 (fun y6 => w_X3_yearsOf y6 x1 (2 : Int32) h3 (fun r7 h8 => (r7 = 0 → Q (-1 : Int32) h8) ∧ (¬ r7 = 0 → gfR h8 x0 2 1 (fun v10 => nn v10 (fun y11 => w_X3_yearsOf y11 x2 (2 : Int32) h8 (fun r12 h13 => (¬ r12 = 0 → gfR h13 x0 2 1 (fun v15 => nn v15 (fun y16 => w_X3_yearsOf y16 x1 (1 : Int32) h13 (fun r17 h18 => gfR h18 x0 2 1 (fun v19 => nn v19 (fun y20 => w_X3_yearsOf y20 x2 (0 : Int32) h18 (fun r21 h22 => (r21 ≤ r17 → gfR h22 x0 2 1 (fun v24 => nn v24 (fun y25 => w_X3_yearsOf y25 x2 (1 : Int32) h22 (fun r26 h27 => gfR h27 x0 2 1 (fun v28 => nn v28 (fun y29 => w_X3_yearsOf y29 x1 (0 : Int32) h27 (fun r30 h31 => Q (if r30 ≤ r26 then (-1 : Int32) else x2) h31))))))) ∧ (¬ r21 ≤ r17 → Q x1 h22)))))))) ∧ (r12 = 0 → Q (-1 : Int32) h13))))))))) ∧ (r2 = true → Q (0 : Int32) h3)))
def w_X3_older (a0 : Nat) (i1 : Int32) (i2 : Int32) (h : Hp) (Q : Int32 → Hp → Prop) : Prop :=
  gfR h a0 2 1 (fun v34 => nn v34 (fun y35 => w_X3_hasSeal y35 i1 h (fun r36 h37 => (r36 = false → B_X3_older_28 Q h37 a0 i1 i2 a0 true) ∧ (r36 = true → gfR h37 a0 2 1 (fun v39 => nn v39 (fun y40 => w_X3_hasSeal y40 i2 h37 (fun r41 h42 => B_X3_older_28 Q h42 a0 i1 i2 a0 (if r41 = false then true else false))))))))
theorem b_X3_older_28 {G : gT} {l : Launch} {V : Hp → Nat → Nat → Nat → List (Nat × Value) → List Value → Prop} {Q : Int32 → Hp → Prop} (C : Cx G l V cX3_older 3 RX3 4 86 0 0 (pI Q) none (some .int) [] false) (h : Hp) (x0 : Nat) (x1 : Int32) (x2 : Int32) (s0 : Nat) (s1 : Bool) (hw : B_X3_older_28 Q h x0 x1 x2 s0 s1) : V h 0 0 28 [(0, .ref x0), (1, .int x1), (2, .int x2)] [.int (bI s1), .ref s0] := by
  unfold B_X3_older_28 at hw
  obtain ⟨hq1, hw⟩ := hw
  refine r_callV (ci := 2) (rest := []) (As := [.int (bI s1)]) C sg_X3_refused rfl rfl q2222 q2224 qs38 q90 q2225 rfl (Nat.le_of_ble_eq_true rfl) dX3_older_28 rfl hq1 (Nat.le_refl _) (Nat.le_refl _) (c_X3_refused G l s0 (bI s1) h _ hw) (k_Z (fun r2 h3 hw => ?_))
  refine r_if_eq_b (tgt := 36) C (by decide) dX3_older_31 (fun hc4 => ?_) (fun hc4 => ?_)
  · have hw := hw.1 hc4
    refine r_aload_n C rfl 0 rfl dX3_older_36 ?_
    refine r_gfR (k := 1) C kX3 (by decide) (Or.inl q2156) (Or.inl rfl) dX3_older_37 hw (fun v5 hw => ?_)
    refine r_iload_n C rfl 1 rfl dX3_older_40 (r_iconst (v := (2 : Int32)) C (by decide) dX3_older_41 ?_)
    obtain ⟨y6, rfl, hw_y6⟩ := hw
    have hw := hw_y6
    refine r_callS (rest := []) (As := [.ref y6, .int x1, .int (2 : Int32)]) C sg_X3_yearsOf q2358 q2359 q90 q2360 rfl (Nat.le_of_ble_eq_true rfl) dX3_older_42 rfl (Nat.le_refl _) (Nat.le_refl _) (c_X3_yearsOf G l y6 x1 (2 : Int32) h3 _ hw) (k_I (fun r7 h8 hw => ?_))
    refine r_if_eq (tgt := 60) C (by decide) dX3_older_45 (fun hc9 => ?_) (fun hc9 => ?_)
    · have hw := hw.1 hc9
      refine r_iconst (v := (-1 : Int32)) C (by decide) dX3_older_60 ?_
      exact r_ireturn C dX3_older_61 (Nat.le_refl _) (Nat.le_refl _) ⟨_, rfl, hw⟩
    · have hw := hw.2 hc9
      refine r_aload_n C rfl 0 rfl dX3_older_48 ?_
      refine r_gfR (k := 1) C kX3 (by decide) (Or.inl q2156) (Or.inl rfl) dX3_older_49 hw (fun v10 hw => ?_)
      refine r_iload_n C rfl 2 rfl dX3_older_52 (r_iconst (v := (2 : Int32)) C (by decide) dX3_older_53 ?_)
      obtain ⟨y11, rfl, hw_y11⟩ := hw
      have hw := hw_y11
      refine r_callS (rest := []) (As := [.ref y11, .int x2, .int (2 : Int32)]) C sg_X3_yearsOf q2358 q2359 q90 q2360 rfl (Nat.le_of_ble_eq_true rfl) dX3_older_54 rfl (Nat.le_refl _) (Nat.le_refl _) (c_X3_yearsOf G l y11 x2 (2 : Int32) h8 _ hw) (k_I (fun r12 h13 hw => ?_))
      refine r_if_ne (tgt := 62) C (by decide) dX3_older_57 (fun hc14 => ?_) (fun hc14 => ?_)
      · have hw := hw.1 hc14
        refine r_aload_n C rfl 0 rfl dX3_older_62 ?_
        refine r_gfR (k := 1) C kX3 (by decide) (Or.inl q2156) (Or.inl rfl) dX3_older_63 hw (fun v15 hw => ?_)
        refine r_iload_n C rfl 1 rfl dX3_older_66 (r_iconst (v := (1 : Int32)) C (by decide) dX3_older_67 ?_)
        obtain ⟨y16, rfl, hw_y16⟩ := hw
        have hw := hw_y16
        refine r_callS (rest := []) (As := [.ref y16, .int x1, .int (1 : Int32)]) C sg_X3_yearsOf q2358 q2359 q90 q2360 rfl (Nat.le_of_ble_eq_true rfl) dX3_older_68 rfl (Nat.le_refl _) (Nat.le_refl _) (c_X3_yearsOf G l y16 x1 (1 : Int32) h13 _ hw) (k_I (fun r17 h18 hw => ?_))
        refine r_aload_n C rfl 0 rfl dX3_older_71 ?_
        refine r_gfR (k := 1) C kX3 (by decide) (Or.inl q2156) (Or.inl rfl) dX3_older_72 hw (fun v19 hw => ?_)
        refine r_iload_n C rfl 2 rfl dX3_older_75 (r_iconst (v := (0 : Int32)) C (by decide) dX3_older_76 ?_)
        obtain ⟨y20, rfl, hw_y20⟩ := hw
        have hw := hw_y20
        refine r_callS (rest := [.int r17]) (As := [.ref y20, .int x2, .int (0 : Int32)]) C sg_X3_yearsOf q2358 q2359 q90 q2360 rfl (Nat.le_of_ble_eq_true rfl) dX3_older_77 rfl (Nat.le_refl _) (Nat.le_refl _) (c_X3_yearsOf G l y20 x2 (0 : Int32) h18 _ hw) (k_I (fun r21 h22 hw => ?_))
        refine r_icmp_ge (tgt := 87) C (by decide) dX3_older_80 (fun hc23 => ?_) (fun hc23 => ?_)
        · have hw := hw.1 hc23
          refine r_aload_n C rfl 0 rfl dX3_older_87 ?_
          refine r_gfR (k := 1) C kX3 (by decide) (Or.inl q2156) (Or.inl rfl) dX3_older_88 hw (fun v24 hw => ?_)
          refine r_iload_n C rfl 2 rfl dX3_older_91 (r_iconst (v := (1 : Int32)) C (by decide) dX3_older_92 ?_)
          obtain ⟨y25, rfl, hw_y25⟩ := hw
          have hw := hw_y25
          refine r_callS (rest := []) (As := [.ref y25, .int x2, .int (1 : Int32)]) C sg_X3_yearsOf q2358 q2359 q90 q2360 rfl (Nat.le_of_ble_eq_true rfl) dX3_older_93 rfl (Nat.le_refl _) (Nat.le_refl _) (c_X3_yearsOf G l y25 x2 (1 : Int32) h22 _ hw) (k_I (fun r26 h27 hw => ?_))
          refine r_aload_n C rfl 0 rfl dX3_older_96 ?_
          refine r_gfR (k := 1) C kX3 (by decide) (Or.inl q2156) (Or.inl rfl) dX3_older_97 hw (fun v28 hw => ?_)
          refine r_iload_n C rfl 1 rfl dX3_older_100 (r_iconst (v := (0 : Int32)) C (by decide) dX3_older_101 ?_)
          obtain ⟨y29, rfl, hw_y29⟩ := hw
          have hw := hw_y29
          refine r_callS (rest := [.int r26]) (As := [.ref y29, .int x1, .int (0 : Int32)]) C sg_X3_yearsOf q2358 q2359 q90 q2360 rfl (Nat.le_of_ble_eq_true rfl) dX3_older_102 rfl (Nat.le_refl _) (Nat.le_refl _) (c_X3_yearsOf G l y29 x1 (0 : Int32) h27 _ hw) (k_I (fun r30 h31 hw => ?_))
          have hJ : V h31 0 0 113 [] [.int (if r30 ≤ r26 then (-1 : Int32) else x2)] := by
            exact r_ireturn C dX3_older_113 (Nat.le_refl _) (Nat.le_refl _) ⟨_, rfl, hw⟩
          refine r_icmp_ge (tgt := 112) C (by decide) dX3_older_105 (fun hc32 => ?_) (fun hc32 => ?_)
          · have hJ33 := hJ
            try simp only [if_pos hc32] at hJ33
            refine r_iconst (v := (-1 : Int32)) C (by decide) dX3_older_112 ?_
            exact r_sub C [] rfl hJ33
          · have hJ33 := hJ
            try simp only [if_neg hc32] at hJ33
            refine r_iload_n C rfl 2 rfl dX3_older_108 (r_goto (tgt := 113) C (by decide) dX3_older_109 ?_)
            exact r_sub C [] rfl hJ33
        · have hw := hw.2 hc23
          refine r_iload_n C rfl 1 rfl dX3_older_83 (r_goto (tgt := 113) C (by decide) dX3_older_84 ?_)
          exact r_ireturn C dX3_older_113 (Nat.le_refl _) (Nat.le_refl _) ⟨_, rfl, hw⟩
      · have hw := hw.2 hc14
        refine r_iconst (v := (-1 : Int32)) C (by decide) dX3_older_60 ?_
        exact r_ireturn C dX3_older_61 (Nat.le_refl _) (Nat.le_refl _) ⟨_, rfl, hw⟩
  · have hw := hw.2 hc4
    refine r_iconst (v := (0 : Int32)) C (by decide) dX3_older_34 ?_
    exact r_ireturn C dX3_older_35 (Nat.le_refl _) (Nat.le_refl _) ⟨_, rfl, hw⟩
theorem sg_X3_older : ySg yX3_older 2 = true := by decide +kernel
theorem c_X3_older (G : gT) (l : Launch) (a0 : Nat) (i1 : Int32) (i2 : Int32) (h : Hp) (Q : Int32 → Hp → Prop) (hw : w_X3_older a0 i1 i2 h Q) : Ct G l yX3_older (ws_ yX3_older cX3_older 3 (some .int)) 4 86 0 0 [.ref a0, .int i1, .int i2] h (pI Q) := by
  refine Ct.of (own := RX3) false (by decide +kernel) rfl (show (_ : Nat) ≤ _ from Nat.le_of_ble_eq_true rfl) (fun z => by cases z) (fun V C => ?_)
  show V h 0 0 0 [(0, .ref a0), (1, .int i1), (2, .int i2)] []
  unfold w_X3_older at hw
  refine r_aload_n C rfl 0 rfl dX3_older_0 (r_aload_n C rfl 0 rfl dX3_older_1 ?_)
  refine r_gfR (k := 1) C kX3 (by decide) (Or.inl q2156) (Or.inl rfl) dX3_older_2 hw (fun v34 hw => ?_)
  refine r_iload_n C rfl 1 rfl dX3_older_5 ?_
  obtain ⟨y35, rfl, hw_y35⟩ := hw
  have hw := hw_y35
  refine r_callS (rest := [.ref a0]) (As := [.ref y35, .int i1]) C sg_X3_hasSeal q2304 q2305 q90 q2306 rfl (Nat.le_of_ble_eq_true rfl) dX3_older_6 rfl (Nat.le_refl _) (Nat.le_refl _) (c_X3_hasSeal G l y35 i1 h _ hw) (k_Z (fun r36 h37 hw => ?_))
  refine r_if_eq_b (tgt := 27) C (by decide) dX3_older_9 (fun hc38 => ?_) (fun hc38 => ?_)
  · have hw := hw.1 hc38
    refine r_iconst (v := (1 : Int32)) C (by decide) dX3_older_27 ?_
    exact r_sub C [0, 1, 2] rfl (b_X3_older_28 C _ _ _ _ _ _ hw)
  · have hw := hw.2 hc38
    refine r_aload_n C rfl 0 rfl dX3_older_12 ?_
    refine r_gfR (k := 1) C kX3 (by decide) (Or.inl q2156) (Or.inl rfl) dX3_older_13 hw (fun v39 hw => ?_)
    refine r_iload_n C rfl 2 rfl dX3_older_16 ?_
    obtain ⟨y40, rfl, hw_y40⟩ := hw
    have hw := hw_y40
    refine r_callS (rest := [.ref a0]) (As := [.ref y40, .int i2]) C sg_X3_hasSeal q2304 q2305 q90 q2306 rfl (Nat.le_of_ble_eq_true rfl) dX3_older_17 rfl (Nat.le_refl _) (Nat.le_refl _) (c_X3_hasSeal G l y40 i2 h37 _ hw) (k_Z (fun r41 h42 hw => ?_))
    have hJ : V h42 0 0 28 [(0, .ref a0), (1, .int i1), (2, .int i2)] [.int (bI (if r41 = false then true else false)), .ref a0] := by
      exact r_sub C [0, 1, 2] rfl (b_X3_older_28 C _ _ _ _ _ _ hw)
    refine r_if_eq_b (tgt := 27) C (by decide) dX3_older_20 (fun hc43 => ?_) (fun hc43 => ?_)
    · have hJ44 := hJ
      try simp only [if_pos hc43] at hJ44
      refine r_iconst (v := (1 : Int32)) C (by decide) dX3_older_27 ?_
      exact r_sub C [0, 1, 2] rfl hJ44
    · have hJ44 := hJ
      try simp only [if_neg (show ¬ r41 = false from by rw [hc43]; decide)] at hJ44
      refine r_iconst (v := (0 : Int32)) C (by decide) dX3_older_23 (r_goto (tgt := 28) C (by decide) dX3_older_24 ?_)
      exact r_sub C [0, 1, 2] rfl hJ44
def B_X3_decides_106 (Q : Int32 → Hp → Prop) (LA28 : Hp → Nat → Int32 → Int32 → Int32 → Int32 → Prop) (h : Hp) (x0 : Nat) (x1 : Int32) (x2 : Int32) (x3 : Int32) (x4 : Int32) : Prop :=
  LA28 h x0 x1 x2 x3 (x4 + (1 : Int32))
def S_X3_decides_28 (Q : Int32 → Hp → Prop) (LA28 : Hp → Nat → Int32 → Int32 → Int32 → Int32 → Prop) (h : Hp) (x0 : Nat) (x1 : Int32) (x2 : Int32) (x3 : Int32) (x4 : Int32) : Prop :=
  gfR h x0 2 1 (fun v1 => nn v1 (fun y2 => rdI h y2 (2 : Int32) (fun v3 => (v3 ≤ x4 → Q x2 h) ∧ (¬ v3 ≤ x4 → gfR h x0 2 1 (fun v5 => nn v5 (fun y6 => rdI h y6 ((225 : Int32) + x4) (fun v7 => (¬ v7 = x1 → B_X3_decides_106 Q LA28 h x0 x1 x2 x3 x4) ∧ (v7 = x1 → gfR h x0 2 1 (fun v9 => nn v9 (fun y10 => w_X3_alone y10 x4 h (fun r11 h12 => (¬ r11 = 0 → B_X3_decides_106 Q LA28 h12 x0 x1 x2 x3 x4) ∧ (r11 = 0 → gfR h12 x0 2 1 (fun v14 => nn v14 (fun y15 => hasC h12 x0 2 ∧ (w_X3_ofCharter x0 y15 x1 x4 (2 : Int32) h12 (fun r17 h18 => B_X3_decides_106 Q LA28 h18 x0 x1 (if r17 ≤ x3 then x2 else x4) (if r17 ≤ x3 then x3 else r17) x4))))))))))))))))
def B_X3_decides_28 (Q : Int32 → Hp → Prop) : Nat → Hp → Nat → Int32 → Int32 → Int32 → Int32 → Prop
  | 0, _, _, _, _, _, _ => False
  | k + 1, h, x0, x1, x2, x3, x4 => S_X3_decides_28 Q (B_X3_decides_28 Q k) h x0 x1 x2 x3 x4
def w_X3_decides (a0 : Nat) (i1 : Int32) (h : Hp) (Q : Int32 → Hp → Prop) : Prop :=
  w_X3_isCharter i1 h (fun r23 h24 => hasC h24 a0 2 ∧ (w_X3_refused a0 (bI (if r23 = false then true else false)) h24 (fun r26 h27 => (r26 = false → ∃ k9 : Nat, B_X3_decides_28 Q k9 h27 a0 i1 (-1 : Int32) (-1 : Int32) (0 : Int32)) ∧ (r26 = true → Q (0 : Int32) h27))))
theorem b_X3_decides_106 {G : gT} {l : Launch} {V : Hp → Nat → Nat → Nat → List (Nat × Value) → List Value → Prop} {Q : Int32 → Hp → Prop} (C : Cx G l V cX3_decides 6 RX3 7 155 0 0 (pI Q) none (some .int) [] false) (LA28 : Hp → Nat → Int32 → Int32 → Int32 → Int32 → Prop) (hLA28 : ∀ (h : Hp) (x0 : Nat) (x1 : Int32) (x2 : Int32) (x3 : Int32) (x4 : Int32), LA28 h x0 x1 x2 x3 x4 → V h 0 0 28 [(0, .ref x0), (1, .int x1), (2, .int x2), (3, .int x3), (4, .int x4)] []) (h : Hp) (x0 : Nat) (x1 : Int32) (x2 : Int32) (x3 : Int32) (x4 : Int32) (hw : B_X3_decides_106 Q LA28 h x0 x1 x2 x3 x4) : V h 0 0 106 [(0, .ref x0), (1, .int x1), (2, .int x2), (3, .int x3), (4, .int x4)] [] := by
  unfold B_X3_decides_106 at hw
  refine r_iinc (v := x4 + (1 : Int32)) (L' := [(4, .int (x4 + (1 : Int32))), (0, .ref x0), (1, .int x1), (2, .int x2), (3, .int x3)]) C (u := 4) rfl (by rfl) (by decide) rfl dX3_decides_106 (r_goto (tgt := 28) C (by decide) dX3_decides_109 ?_)
  exact r_sub C [1, 2, 3, 4, 0] rfl (hLA28 _ _ _ _ _ _ hw)
theorem s_X3_decides_28 {G : gT} {l : Launch} {V : Hp → Nat → Nat → Nat → List (Nat × Value) → List Value → Prop} {Q : Int32 → Hp → Prop} (C : Cx G l V cX3_decides 6 RX3 7 155 0 0 (pI Q) none (some .int) [] false) (LA28 : Hp → Nat → Int32 → Int32 → Int32 → Int32 → Prop) (hLA28 : ∀ (h : Hp) (x0 : Nat) (x1 : Int32) (x2 : Int32) (x3 : Int32) (x4 : Int32), LA28 h x0 x1 x2 x3 x4 → V h 0 0 28 [(0, .ref x0), (1, .int x1), (2, .int x2), (3, .int x3), (4, .int x4)] []) (h : Hp) (x0 : Nat) (x1 : Int32) (x2 : Int32) (x3 : Int32) (x4 : Int32) (hw : S_X3_decides_28 Q LA28 h x0 x1 x2 x3 x4) : V h 0 0 28 [(0, .ref x0), (1, .int x1), (2, .int x2), (3, .int x3), (4, .int x4)] [] := by
  unfold S_X3_decides_28 at hw
  refine r_iload C 4 rfl dX3_decides_28 (r_aload_n C rfl 0 rfl dX3_decides_30 ?_)
  refine r_gfR (k := 1) C kX3 (by decide) (Or.inl q2156) (Or.inl rfl) dX3_decides_31 hw (fun v1 hw => ?_)
  refine r_iconst (v := (2 : Int32)) C (by decide) dX3_decides_34 ?_
  obtain ⟨y2, rfl, hw_y2⟩ := hw
  have hw := hw_y2
  refine r_iaload C dX3_decides_35 hw (fun v3 hw => ?_)
  refine r_icmp_ge (tgt := 112) C (by decide) dX3_decides_36 (fun hc4 => ?_) (fun hc4 => ?_)
  · have hw := hw.1 hc4
    refine r_iload_n C rfl 2 rfl dX3_decides_112 ?_
    exact r_ireturn C dX3_decides_113 (Nat.le_refl _) (Nat.le_refl _) ⟨_, rfl, hw⟩
  · have hw := hw.2 hc4
    refine r_aload_n C rfl 0 rfl dX3_decides_39 ?_
    refine r_gfR (k := 1) C kX3 (by decide) (Or.inl q2156) (Or.inl rfl) dX3_decides_40 hw (fun v5 hw => ?_)
    refine r_sipush (v := (225 : Int32)) C (by decide) dX3_decides_43 (r_iload C 4 rfl dX3_decides_46 (r_iadd C dX3_decides_48 ?_))
    obtain ⟨y6, rfl, hw_y6⟩ := hw
    have hw := hw_y6
    refine r_iaload C dX3_decides_49 hw (fun v7 hw => ?_)
    refine r_iload_n C rfl 1 rfl dX3_decides_50 ?_
    refine r_icmp_ne (tgt := 106) C (by decide) dX3_decides_51 (fun hc8 => ?_) (fun hc8 => ?_)
    · have hw := hw.1 hc8
      exact r_sub C [0, 1, 2, 3, 4] rfl (b_X3_decides_106 C LA28 hLA28 _ _ _ _ _ _ hw)
    · have hw := hw.2 hc8
      refine r_aload_n C rfl 0 rfl dX3_decides_54 ?_
      refine r_gfR (k := 1) C kX3 (by decide) (Or.inl q2156) (Or.inl rfl) dX3_decides_55 hw (fun v9 hw => ?_)
      refine r_iload C 4 rfl dX3_decides_58 ?_
      obtain ⟨y10, rfl, hw_y10⟩ := hw
      have hw := hw_y10
      refine r_callS (rest := []) (As := [.ref y10, .int x4]) C sg_X3_alone q2343 q2344 q90 q2345 rfl (Nat.le_of_ble_eq_true rfl) dX3_decides_60 rfl (Nat.le_refl _) (Nat.le_refl _) (c_X3_alone G l y10 x4 h _ hw) (k_I (fun r11 h12 hw => ?_))
      refine r_if_ne (tgt := 106) C (by decide) dX3_decides_63 (fun hc13 => ?_) (fun hc13 => ?_)
      · have hw := hw.1 hc13
        exact r_sub C [0, 1, 2, 3, 4] rfl (b_X3_decides_106 C LA28 hLA28 _ _ _ _ _ _ hw)
      · have hw := hw.2 hc13
        refine r_aload_n C rfl 0 rfl dX3_decides_66 (r_aload_n C rfl 0 rfl dX3_decides_67 ?_)
        refine r_gfR (k := 1) C kX3 (by decide) (Or.inl q2156) (Or.inl rfl) dX3_decides_68 hw (fun v14 hw => ?_)
        refine r_iload_n C rfl 1 rfl dX3_decides_71 (r_iload C 4 rfl dX3_decides_72 (r_iconst (v := (2 : Int32)) C (by decide) dX3_decides_74 ?_))
        obtain ⟨y15, rfl, hw_y15⟩ := hw
        have hw := hw_y15
        obtain ⟨hq16, hw⟩ := hw
        refine r_callV (ci := 2) (rest := []) (As := [.ref y15, .int x1, .int x4, .int (2 : Int32)]) C sg_X3_ofCharter rfl rfl q2370 q2372 qs55 q90 q2373 rfl (Nat.le_of_ble_eq_true rfl) dX3_decides_75 rfl hq16 (Nat.le_refl _) (Nat.le_refl _) (c_X3_ofCharter G l x0 y15 x1 x4 (2 : Int32) h12 _ hw) (k_I (fun r17 h18 hw => ?_))
        refine r_istore (L' := [(5, .int r17), (0, .ref x0), (1, .int x1), (2, .int x2), (3, .int x3), (4, .int x4)]) C (by decide) rfl dX3_decides_78 (r_iload C 0 rfl dX3_decides_80 (r_iload_n C rfl 4 rfl dX3_decides_82 ?_))
        have hJ : V h18 0 0 92 [(5, .int r17), (0, .ref x0), (1, .int x1), (3, .int x3), (4, .int x4)] [.int (if r17 ≤ x3 then x2 else x4)] := by
          refine r_istore_n (L' := [(2, .int (if r17 ≤ x3 then x2 else x4)), (5, .int r17), (0, .ref x0), (1, .int x1), (3, .int x3), (4, .int x4)]) C rfl (by decide) rfl dX3_decides_92 (r_iload C 1 rfl dX3_decides_93 (r_iload_n C rfl 4 rfl dX3_decides_95 ?_))
          have hJ : V h18 0 0 105 [(2, .int (if r17 ≤ x3 then x2 else x4)), (0, .ref x0), (1, .int x1), (4, .int x4)] [.int (if r17 ≤ x3 then x3 else r17)] := by
            refine r_istore_n (L' := [(3, .int (if r17 ≤ x3 then x3 else r17)), (2, .int (if r17 ≤ x3 then x2 else x4)), (0, .ref x0), (1, .int x1), (4, .int x4)]) C rfl (by decide) rfl dX3_decides_105 ?_
            exact r_sub C [2, 3, 1, 0, 4] rfl (b_X3_decides_106 C LA28 hLA28 _ _ _ _ _ _ hw)
          refine r_icmp_le (tgt := 104) C (by decide) dX3_decides_96 (fun hc19 => ?_) (fun hc19 => ?_)
          · have hJ20 := hJ
            try simp only [if_pos hc19] at hJ20 ⊢
            refine r_iload_n C rfl 4 rfl dX3_decides_104 ?_
            exact r_sub C [0, 2, 3, 5] rfl hJ20
          · have hJ20 := hJ
            try simp only [if_neg hc19] at hJ20 ⊢
            refine r_iload C 1 rfl dX3_decides_99 (r_goto (tgt := 105) C (by decide) dX3_decides_101 ?_)
            exact r_sub C [0, 2, 3, 5] rfl hJ20
        refine r_icmp_le (tgt := 91) C (by decide) dX3_decides_83 (fun hc21 => ?_) (fun hc21 => ?_)
        · have hJ22 := hJ
          try simp only [if_pos hc21] at hJ22
          refine r_iload_n C rfl 3 rfl dX3_decides_91 ?_
          exact r_sub C [0, 1, 2, 4, 5] rfl hJ22
        · have hJ22 := hJ
          try simp only [if_neg hc21] at hJ22
          refine r_iload C 5 rfl dX3_decides_86 (r_goto (tgt := 92) C (by decide) dX3_decides_88 ?_)
          exact r_sub C [0, 1, 2, 4, 5] rfl hJ22
theorem b_X3_decides_28 {G : gT} {l : Launch} {V : Hp → Nat → Nat → Nat → List (Nat × Value) → List Value → Prop} {Q : Int32 → Hp → Prop} (C : Cx G l V cX3_decides 6 RX3 7 155 0 0 (pI Q) none (some .int) [] false) : ∀ (k : Nat) (h : Hp) (x0 : Nat) (x1 : Int32) (x2 : Int32) (x3 : Int32) (x4 : Int32), B_X3_decides_28 Q k h x0 x1 x2 x3 x4 → V h 0 0 28 [(0, .ref x0), (1, .int x1), (2, .int x2), (3, .int x3), (4, .int x4)] [] := by
  intro k
  induction k with
  | zero =>
    intro h x0 x1 x2 x3 x4 hw
    exact hw.elim
  | succ k ih =>
    intro h x0 x1 x2 x3 x4 hw
    exact s_X3_decides_28 C _ (fun h x0 x1 x2 x3 x4 hw => ih h x0 x1 x2 x3 x4 hw) h x0 x1 x2 x3 x4 hw
theorem sg_X3_decides : ySg yX3_decides 1 = true := by decide +kernel
theorem c_X3_decides (G : gT) (l : Launch) (a0 : Nat) (i1 : Int32) (h : Hp) (Q : Int32 → Hp → Prop) (hw : w_X3_decides a0 i1 h Q) : Ct G l yX3_decides (ws_ yX3_decides cX3_decides 6 (some .int)) 7 155 0 0 [.ref a0, .int i1] h (pI Q) := by
  refine Ct.of (own := RX3) false (by decide +kernel) rfl (show (_ : Nat) ≤ _ from Nat.le_of_ble_eq_true rfl) (fun z => by cases z) (fun V C => ?_)
  show V h 0 0 0 [(0, .ref a0), (1, .int i1)] []
  unfold w_X3_decides at hw
  refine r_aload_n C rfl 0 rfl dX3_decides_0 (r_iload_n C rfl 1 rfl dX3_decides_1 ?_)
  refine r_callS (rest := [.ref a0]) (As := [.int i1]) C sg_X3_isCharter q2452 q2453 q90 q2454 rfl (Nat.le_of_ble_eq_true rfl) dX3_decides_2 rfl (Nat.le_refl _) (Nat.le_refl _) (c_X3_isCharter G l i1 h _ hw) (k_Z (fun r23 h24 hw => ?_))
  have hJ : V h24 0 0 13 [(0, .ref a0), (1, .int i1)] [.int (bI (if r23 = false then true else false)), .ref a0] := by
    obtain ⟨hq25, hw⟩ := hw
    refine r_callV (ci := 2) (rest := []) (As := [.int (bI (if r23 = false then true else false))]) C sg_X3_refused rfl rfl q2222 q2224 qs38 q90 q2225 rfl (Nat.le_of_ble_eq_true rfl) dX3_decides_13 rfl hq25 (Nat.le_refl _) (Nat.le_refl _) (c_X3_refused G l a0 (bI (if r23 = false then true else false)) h24 _ hw) (k_Z (fun r26 h27 hw => ?_))
    refine r_if_eq_b (tgt := 21) C (by decide) dX3_decides_16 (fun hc28 => ?_) (fun hc28 => ?_)
    · have hw := hw.1 hc28
      refine r_iconst (v := (-1 : Int32)) C (by decide) dX3_decides_21 (r_istore_n (L' := [(2, .int (-1 : Int32)), (0, .ref a0), (1, .int i1)]) C rfl (by decide) rfl dX3_decides_22 (r_iconst (v := (-1 : Int32)) C (by decide) dX3_decides_23 (r_istore_n (L' := [(3, .int (-1 : Int32)), (2, .int (-1 : Int32)), (0, .ref a0), (1, .int i1)]) C rfl (by decide) rfl dX3_decides_24 (r_iconst (v := (0 : Int32)) C (by decide) dX3_decides_25 (r_istore (L' := [(4, .int (0 : Int32)), (3, .int (-1 : Int32)), (2, .int (-1 : Int32)), (0, .ref a0), (1, .int i1)]) C (by decide) rfl dX3_decides_26 ?_)))))
      obtain ⟨k9, hw⟩ := hw
      exact r_sub C [3, 4, 2, 1, 0] rfl (b_X3_decides_28 C _ _ _ _ _ _ _ hw)
    · have hw := hw.2 hc28
      refine r_iconst (v := (0 : Int32)) C (by decide) dX3_decides_19 ?_
      exact r_ireturn C dX3_decides_20 (Nat.le_refl _) (Nat.le_refl _) ⟨_, rfl, hw⟩
  refine r_if_eq_b (tgt := 12) C (by decide) dX3_decides_5 (fun hc29 => ?_) (fun hc29 => ?_)
  · have hJ30 := hJ
    try simp only [if_pos hc29] at hJ30
    refine r_iconst (v := (1 : Int32)) C (by decide) dX3_decides_12 ?_
    exact r_sub C [0, 1] rfl hJ30
  · have hJ30 := hJ
    try simp only [if_neg (show ¬ r23 = false from by rw [hc29]; decide)] at hJ30
    refine r_iconst (v := (0 : Int32)) C (by decide) dX3_decides_8 (r_goto (tgt := 13) C (by decide) dX3_decides_9 ?_)
    exact r_sub C [0, 1] rfl hJ30
def B_X3_ifCracked_44 (Q : Int32 → Hp → Prop) (h : Hp) (x0 : Nat) (x1 : Int32) (x2 : Int32) (s0 : Nat) (s1 : Int32) : Prop :=
  hasC h s0 2 ∧ (w_X3_refused s0 s1 h (fun r2 h3 => (r2 = false → gfR h3 x0 2 1 (fun v5 => gfR h3 x0 2 2 (fun v6 => nn v5 (fun y7 => nn v6 (fun y8 => w_X3_copy y7 y8 h3 (fun h10 => gfR h10 x0 2 2 (fun v11 => nn v11 (fun y12 => w_X3_goCrack y12 x1 x2 h10 (fun r13 h14 => gfR h14 x0 2 2 (fun v15 => nn v15 (fun y16 => hasC h14 x0 2 ∧ (w_X3_fakes x0 y16 h14 (fun r18 h19 => gfR h19 x0 2 1 (fun v20 => nn v20 (fun y21 => hasC h19 x0 2 ∧ (w_X3_fakes x0 y21 h19 (fun r23 h24 => Q (r18 - r23) h24))))))))))))))))) ∧ (r2 = true → Q (0 : Int32) h3)))
def w_X3_ifCracked (a0 : Nat) (i1 : Int32) (i2 : Int32) (h : Hp) (Q : Int32 → Hp → Prop) : Prop :=
  gfR h a0 2 1 (fun v25 => nn v25 (fun y26 => w_X3_hasDie y26 i1 h (fun r27 h28 => (r27 = true → w_X3_isYear i2 h28 (fun r30 h31 => (r30 = true → gfR h31 a0 2 1 (fun v33 => nn v33 (fun y34 => w_X3_canCrack y34 i1 i2 h31 (fun r35 h36 => B_X3_ifCracked_44 Q h36 a0 i1 i2 a0 (if r35 = true then (0 : Int32) else (3 : Int32)))))) ∧ (r30 = false → B_X3_ifCracked_44 Q h31 a0 i1 i2 a0 (2 : Int32)))) ∧ (r27 = false → B_X3_ifCracked_44 Q h28 a0 i1 i2 a0 (1 : Int32)))))
theorem b_X3_ifCracked_44 {G : gT} {l : Launch} {V : Hp → Nat → Nat → Nat → List (Nat × Value) → List Value → Prop} {Q : Int32 → Hp → Prop} (C : Cx G l V cX3_ifCracked 3 RX3 9 201 0 0 (pI Q) none (some .int) [] false) (h : Hp) (x0 : Nat) (x1 : Int32) (x2 : Int32) (s0 : Nat) (s1 : Int32) (hw : B_X3_ifCracked_44 Q h x0 x1 x2 s0 s1) : V h 0 0 44 [(0, .ref x0), (1, .int x1), (2, .int x2)] [.int s1, .ref s0] := by
  unfold B_X3_ifCracked_44 at hw
  obtain ⟨hq1, hw⟩ := hw
  refine r_callV (ci := 2) (rest := []) (As := [.int s1]) C sg_X3_refused rfl rfl q2222 q2224 qs38 q90 q2225 rfl (Nat.le_of_ble_eq_true rfl) dX3_ifCracked_44 rfl hq1 (Nat.le_refl _) (Nat.le_refl _) (c_X3_refused G l s0 s1 h _ hw) (k_Z (fun r2 h3 hw => ?_))
  refine r_if_eq_b (tgt := 52) C (by decide) dX3_ifCracked_47 (fun hc4 => ?_) (fun hc4 => ?_)
  · have hw := hw.1 hc4
    refine r_aload_n C rfl 0 rfl dX3_ifCracked_52 ?_
    refine r_gfR (k := 1) C kX3 (by decide) (Or.inl q2156) (Or.inl rfl) dX3_ifCracked_53 hw (fun v5 hw => ?_)
    refine r_aload_n C rfl 0 rfl dX3_ifCracked_56 ?_
    refine r_gfR (k := 2) C kX3 (by decide) (Or.inl q2157) (Or.inl rfl) dX3_ifCracked_57 hw (fun v6 hw => ?_)
    obtain ⟨y7, rfl, hw_y7⟩ := hw
    have hw := hw_y7
    obtain ⟨y8, rfl, hw_y8⟩ := hw
    have hw := hw_y8
    refine r_callS (rest := []) (As := [.ref y7, .ref y8]) C sg_X3_copy q2327 q2328 q90 q2329 rfl (Nat.le_of_ble_eq_true rfl) dX3_ifCracked_60 rfl (Nat.le_refl _) (Nat.le_refl _) (c_X3_copy G l y7 y8 h3 _ hw) (k_V (fun h10 hw => ?_))
    refine r_aload_n C rfl 0 rfl dX3_ifCracked_63 ?_
    refine r_gfR (k := 2) C kX3 (by decide) (Or.inl q2157) (Or.inl rfl) dX3_ifCracked_64 hw (fun v11 hw => ?_)
    refine r_iload_n C rfl 1 rfl dX3_ifCracked_67 (r_iload_n C rfl 2 rfl dX3_ifCracked_68 ?_)
    obtain ⟨y12, rfl, hw_y12⟩ := hw
    have hw := hw_y12
    refine r_callS (rest := []) (As := [.ref y12, .int x1, .int x2]) C sg_X3_goCrack q2297 q2298 q90 q2299 rfl (Nat.le_of_ble_eq_true rfl) dX3_ifCracked_69 rfl (Nat.le_refl _) (Nat.le_refl _) (c_X3_goCrack G l y12 x1 x2 h10 _ hw) (k_I (fun r13 h14 hw => ?_))
    refine r_pop C rfl dX3_ifCracked_72 (r_aload_n C rfl 0 rfl dX3_ifCracked_73 (r_aload_n C rfl 0 rfl dX3_ifCracked_74 ?_))
    refine r_gfR (k := 2) C kX3 (by decide) (Or.inl q2157) (Or.inl rfl) dX3_ifCracked_75 hw (fun v15 hw => ?_)
    obtain ⟨y16, rfl, hw_y16⟩ := hw
    have hw := hw_y16
    obtain ⟨hq17, hw⟩ := hw
    refine r_callV (ci := 2) (rest := []) (As := [.ref y16]) C sg_X3_fakes rfl rfl q2335 q2337 qs53 q90 q2338 rfl (Nat.le_of_ble_eq_true rfl) dX3_ifCracked_78 rfl hq17 (Nat.le_refl _) (Nat.le_refl _) (c_X3_fakes G l x0 y16 h14 _ hw) (k_I (fun r18 h19 hw => ?_))
    refine r_aload_n C rfl 0 rfl dX3_ifCracked_81 (r_aload_n C rfl 0 rfl dX3_ifCracked_82 ?_)
    refine r_gfR (k := 1) C kX3 (by decide) (Or.inl q2156) (Or.inl rfl) dX3_ifCracked_83 hw (fun v20 hw => ?_)
    obtain ⟨y21, rfl, hw_y21⟩ := hw
    have hw := hw_y21
    obtain ⟨hq22, hw⟩ := hw
    refine r_callV (ci := 2) (rest := [.int r18]) (As := [.ref y21]) C sg_X3_fakes rfl rfl q2335 q2337 qs53 q90 q2338 rfl (Nat.le_of_ble_eq_true rfl) dX3_ifCracked_86 rfl hq22 (Nat.le_refl _) (Nat.le_refl _) (c_X3_fakes G l x0 y21 h19 _ hw) (k_I (fun r23 h24 hw => ?_))
    refine r_isub C dX3_ifCracked_89 ?_
    exact r_ireturn C dX3_ifCracked_90 (Nat.le_refl _) (Nat.le_refl _) ⟨_, rfl, hw⟩
  · have hw := hw.2 hc4
    refine r_iconst (v := (0 : Int32)) C (by decide) dX3_ifCracked_50 ?_
    exact r_ireturn C dX3_ifCracked_51 (Nat.le_refl _) (Nat.le_refl _) ⟨_, rfl, hw⟩
theorem sg_X3_ifCracked : ySg yX3_ifCracked 2 = true := by decide +kernel
theorem c_X3_ifCracked (G : gT) (l : Launch) (a0 : Nat) (i1 : Int32) (i2 : Int32) (h : Hp) (Q : Int32 → Hp → Prop) (hw : w_X3_ifCracked a0 i1 i2 h Q) : Ct G l yX3_ifCracked (ws_ yX3_ifCracked cX3_ifCracked 3 (some .int)) 9 201 0 0 [.ref a0, .int i1, .int i2] h (pI Q) := by
  refine Ct.of (own := RX3) false (by decide +kernel) rfl (show (_ : Nat) ≤ _ from Nat.le_of_ble_eq_true rfl) (fun z => by cases z) (fun V C => ?_)
  show V h 0 0 0 [(0, .ref a0), (1, .int i1), (2, .int i2)] []
  unfold w_X3_ifCracked at hw
  refine r_aload_n C rfl 0 rfl dX3_ifCracked_0 (r_aload_n C rfl 0 rfl dX3_ifCracked_1 ?_)
  refine r_gfR (k := 1) C kX3 (by decide) (Or.inl q2156) (Or.inl rfl) dX3_ifCracked_2 hw (fun v25 hw => ?_)
  refine r_iload_n C rfl 1 rfl dX3_ifCracked_5 ?_
  obtain ⟨y26, rfl, hw_y26⟩ := hw
  have hw := hw_y26
  refine r_callS (rest := [.ref a0]) (As := [.ref y26, .int i1]) C sg_X3_hasDie q2291 q2292 q90 q2293 rfl (Nat.le_of_ble_eq_true rfl) dX3_ifCracked_6 rfl (Nat.le_refl _) (Nat.le_refl _) (c_X3_hasDie G l y26 i1 h _ hw) (k_Z (fun r27 h28 hw => ?_))
  refine r_if_ne_b (tgt := 16) C (by decide) dX3_ifCracked_9 (fun hc29 => ?_) (fun hc29 => ?_)
  · have hw := hw.1 hc29
    refine r_iload_n C rfl 2 rfl dX3_ifCracked_16 ?_
    refine r_callS (rest := [.ref a0]) (As := [.int i2]) C sg_X3_isYear q2439 q2440 q90 q2441 rfl (Nat.le_of_ble_eq_true rfl) dX3_ifCracked_17 rfl (Nat.le_refl _) (Nat.le_refl _) (c_X3_isYear G l i2 h28 _ hw) (k_Z (fun r30 h31 hw => ?_))
    refine r_if_ne_b (tgt := 27) C (by decide) dX3_ifCracked_20 (fun hc32 => ?_) (fun hc32 => ?_)
    · have hw := hw.1 hc32
      refine r_aload_n C rfl 0 rfl dX3_ifCracked_27 ?_
      refine r_gfR (k := 1) C kX3 (by decide) (Or.inl q2156) (Or.inl rfl) dX3_ifCracked_28 hw (fun v33 hw => ?_)
      refine r_iload_n C rfl 1 rfl dX3_ifCracked_31 (r_iload_n C rfl 2 rfl dX3_ifCracked_32 ?_)
      obtain ⟨y34, rfl, hw_y34⟩ := hw
      have hw := hw_y34
      refine r_callS (rest := [.ref a0]) (As := [.ref y34, .int i1, .int i2]) C sg_X3_canCrack q2294 q2295 q90 q2296 rfl (Nat.le_of_ble_eq_true rfl) dX3_ifCracked_33 rfl (Nat.le_refl _) (Nat.le_refl _) (c_X3_canCrack G l y34 i1 i2 h31 _ hw) (k_Z (fun r35 h36 hw => ?_))
      have hJ : V h36 0 0 44 [(0, .ref a0), (1, .int i1), (2, .int i2)] [.int (if r35 = true then (0 : Int32) else (3 : Int32)), .ref a0] := by
        exact r_sub C [0, 1, 2] rfl (b_X3_ifCracked_44 C _ _ _ _ _ _ hw)
      refine r_if_ne_b (tgt := 43) C (by decide) dX3_ifCracked_36 (fun hc37 => ?_) (fun hc37 => ?_)
      · have hJ38 := hJ
        try simp only [if_pos hc37] at hJ38
        refine r_iconst (v := (0 : Int32)) C (by decide) dX3_ifCracked_43 ?_
        exact r_sub C [0, 1, 2] rfl hJ38
      · have hJ38 := hJ
        try simp only [if_neg (show ¬ r35 = true from by rw [hc37]; decide)] at hJ38
        refine r_iconst (v := (3 : Int32)) C (by decide) dX3_ifCracked_39 (r_goto (tgt := 44) C (by decide) dX3_ifCracked_40 ?_)
        exact r_sub C [0, 1, 2] rfl hJ38
    · have hw := hw.2 hc32
      refine r_iconst (v := (2 : Int32)) C (by decide) dX3_ifCracked_23 (r_goto (tgt := 44) C (by decide) dX3_ifCracked_24 ?_)
      exact r_sub C [0, 1, 2] rfl (b_X3_ifCracked_44 C _ _ _ _ _ _ hw)
  · have hw := hw.2 hc29
    refine r_iconst (v := (1 : Int32)) C (by decide) dX3_ifCracked_12 (r_goto (tgt := 44) C (by decide) dX3_ifCracked_13 ?_)
    exact r_sub C [0, 1, 2] rfl (b_X3_ifCracked_44 C _ _ _ _ _ _ hw)
def B_X3_ifHung_24 (Q : Int32 → Hp → Prop) (h : Hp) (x0 : Nat) (x1 : Int32) (x2 : Int32) (s0 : Nat) (s1 : Bool) : Prop :=
  hasC h s0 2 ∧ (w_X3_refused s0 (bI s1) h (fun r2 h3 => (r2 = false → gfR h3 x0 2 1 (fun v5 => gfR h3 x0 2 2 (fun v6 => nn v5 (fun y7 => nn v6 (fun y8 => w_X3_copy y7 y8 h3 (fun h10 => gfR h10 x0 2 2 (fun v11 => nn v11 (fun y12 => w_X3_goHang y12 x1 x2 h10 (fun r13 h14 => gfR h14 x0 2 2 (fun v15 => nn v15 (fun y16 => hasC h14 x0 2 ∧ (w_X3_ofCharter x0 y16 x2 (-1 : Int32) (2 : Int32) h14 (fun r18 h19 => Q r18 h19))))))))))))) ∧ (r2 = true → Q (0 : Int32) h3)))
def w_X3_ifHung (a0 : Nat) (i1 : Int32) (i2 : Int32) (h : Hp) (Q : Int32 → Hp → Prop) : Prop :=
  gfR h a0 2 1 (fun v20 => nn v20 (fun y21 => w_X3_hasSeal y21 i1 h (fun r22 h23 => (r22 = false → B_X3_ifHung_24 Q h23 a0 i1 i2 a0 true) ∧ (r22 = true → w_X3_isCharter i2 h23 (fun r25 h26 => B_X3_ifHung_24 Q h26 a0 i1 i2 a0 (if r25 = false then true else false))))))
theorem b_X3_ifHung_24 {G : gT} {l : Launch} {V : Hp → Nat → Nat → Nat → List (Nat × Value) → List Value → Prop} {Q : Int32 → Hp → Prop} (C : Cx G l V cX3_ifHung 3 RX3 7 155 0 0 (pI Q) none (some .int) [] false) (h : Hp) (x0 : Nat) (x1 : Int32) (x2 : Int32) (s0 : Nat) (s1 : Bool) (hw : B_X3_ifHung_24 Q h x0 x1 x2 s0 s1) : V h 0 0 24 [(0, .ref x0), (1, .int x1), (2, .int x2)] [.int (bI s1), .ref s0] := by
  unfold B_X3_ifHung_24 at hw
  obtain ⟨hq1, hw⟩ := hw
  refine r_callV (ci := 2) (rest := []) (As := [.int (bI s1)]) C sg_X3_refused rfl rfl q2222 q2224 qs38 q90 q2225 rfl (Nat.le_of_ble_eq_true rfl) dX3_ifHung_24 rfl hq1 (Nat.le_refl _) (Nat.le_refl _) (c_X3_refused G l s0 (bI s1) h _ hw) (k_Z (fun r2 h3 hw => ?_))
  refine r_if_eq_b (tgt := 32) C (by decide) dX3_ifHung_27 (fun hc4 => ?_) (fun hc4 => ?_)
  · have hw := hw.1 hc4
    refine r_aload_n C rfl 0 rfl dX3_ifHung_32 ?_
    refine r_gfR (k := 1) C kX3 (by decide) (Or.inl q2156) (Or.inl rfl) dX3_ifHung_33 hw (fun v5 hw => ?_)
    refine r_aload_n C rfl 0 rfl dX3_ifHung_36 ?_
    refine r_gfR (k := 2) C kX3 (by decide) (Or.inl q2157) (Or.inl rfl) dX3_ifHung_37 hw (fun v6 hw => ?_)
    obtain ⟨y7, rfl, hw_y7⟩ := hw
    have hw := hw_y7
    obtain ⟨y8, rfl, hw_y8⟩ := hw
    have hw := hw_y8
    refine r_callS (rest := []) (As := [.ref y7, .ref y8]) C sg_X3_copy q2327 q2328 q90 q2329 rfl (Nat.le_of_ble_eq_true rfl) dX3_ifHung_40 rfl (Nat.le_refl _) (Nat.le_refl _) (c_X3_copy G l y7 y8 h3 _ hw) (k_V (fun h10 hw => ?_))
    refine r_aload_n C rfl 0 rfl dX3_ifHung_43 ?_
    refine r_gfR (k := 2) C kX3 (by decide) (Or.inl q2157) (Or.inl rfl) dX3_ifHung_44 hw (fun v11 hw => ?_)
    refine r_iload_n C rfl 1 rfl dX3_ifHung_47 (r_iload_n C rfl 2 rfl dX3_ifHung_48 ?_)
    obtain ⟨y12, rfl, hw_y12⟩ := hw
    have hw := hw_y12
    refine r_callS (rest := []) (As := [.ref y12, .int x1, .int x2]) C sg_X3_goHang q2307 q2308 q90 q2309 rfl (Nat.le_of_ble_eq_true rfl) dX3_ifHung_49 rfl (Nat.le_refl _) (Nat.le_refl _) (c_X3_goHang G l y12 x1 x2 h10 _ hw) (k_I (fun r13 h14 hw => ?_))
    refine r_pop C rfl dX3_ifHung_52 (r_aload_n C rfl 0 rfl dX3_ifHung_53 (r_aload_n C rfl 0 rfl dX3_ifHung_54 ?_))
    refine r_gfR (k := 2) C kX3 (by decide) (Or.inl q2157) (Or.inl rfl) dX3_ifHung_55 hw (fun v15 hw => ?_)
    refine r_iload_n C rfl 2 rfl dX3_ifHung_58 (r_iconst (v := (-1 : Int32)) C (by decide) dX3_ifHung_59 (r_iconst (v := (2 : Int32)) C (by decide) dX3_ifHung_60 ?_))
    obtain ⟨y16, rfl, hw_y16⟩ := hw
    have hw := hw_y16
    obtain ⟨hq17, hw⟩ := hw
    refine r_callV (ci := 2) (rest := []) (As := [.ref y16, .int x2, .int (-1 : Int32), .int (2 : Int32)]) C sg_X3_ofCharter rfl rfl q2370 q2372 qs55 q90 q2373 rfl (Nat.le_of_ble_eq_true rfl) dX3_ifHung_61 rfl hq17 (Nat.le_refl _) (Nat.le_refl _) (c_X3_ofCharter G l x0 y16 x2 (-1 : Int32) (2 : Int32) h14 _ hw) (k_I (fun r18 h19 hw => ?_))
    exact r_ireturn C dX3_ifHung_64 (Nat.le_refl _) (Nat.le_refl _) ⟨_, rfl, hw⟩
  · have hw := hw.2 hc4
    refine r_iconst (v := (0 : Int32)) C (by decide) dX3_ifHung_30 ?_
    exact r_ireturn C dX3_ifHung_31 (Nat.le_refl _) (Nat.le_refl _) ⟨_, rfl, hw⟩
theorem sg_X3_ifHung : ySg yX3_ifHung 2 = true := by decide +kernel
theorem c_X3_ifHung (G : gT) (l : Launch) (a0 : Nat) (i1 : Int32) (i2 : Int32) (h : Hp) (Q : Int32 → Hp → Prop) (hw : w_X3_ifHung a0 i1 i2 h Q) : Ct G l yX3_ifHung (ws_ yX3_ifHung cX3_ifHung 3 (some .int)) 7 155 0 0 [.ref a0, .int i1, .int i2] h (pI Q) := by
  refine Ct.of (own := RX3) false (by decide +kernel) rfl (show (_ : Nat) ≤ _ from Nat.le_of_ble_eq_true rfl) (fun z => by cases z) (fun V C => ?_)
  show V h 0 0 0 [(0, .ref a0), (1, .int i1), (2, .int i2)] []
  unfold w_X3_ifHung at hw
  refine r_aload_n C rfl 0 rfl dX3_ifHung_0 (r_aload_n C rfl 0 rfl dX3_ifHung_1 ?_)
  refine r_gfR (k := 1) C kX3 (by decide) (Or.inl q2156) (Or.inl rfl) dX3_ifHung_2 hw (fun v20 hw => ?_)
  refine r_iload_n C rfl 1 rfl dX3_ifHung_5 ?_
  obtain ⟨y21, rfl, hw_y21⟩ := hw
  have hw := hw_y21
  refine r_callS (rest := [.ref a0]) (As := [.ref y21, .int i1]) C sg_X3_hasSeal q2304 q2305 q90 q2306 rfl (Nat.le_of_ble_eq_true rfl) dX3_ifHung_6 rfl (Nat.le_refl _) (Nat.le_refl _) (c_X3_hasSeal G l y21 i1 h _ hw) (k_Z (fun r22 h23 hw => ?_))
  refine r_if_eq_b (tgt := 23) C (by decide) dX3_ifHung_9 (fun hc24 => ?_) (fun hc24 => ?_)
  · have hw := hw.1 hc24
    refine r_iconst (v := (1 : Int32)) C (by decide) dX3_ifHung_23 ?_
    exact r_sub C [0, 1, 2] rfl (b_X3_ifHung_24 C _ _ _ _ _ _ hw)
  · have hw := hw.2 hc24
    refine r_iload_n C rfl 2 rfl dX3_ifHung_12 ?_
    refine r_callS (rest := [.ref a0]) (As := [.int i2]) C sg_X3_isCharter q2452 q2453 q90 q2454 rfl (Nat.le_of_ble_eq_true rfl) dX3_ifHung_13 rfl (Nat.le_refl _) (Nat.le_refl _) (c_X3_isCharter G l i2 h23 _ hw) (k_Z (fun r25 h26 hw => ?_))
    have hJ : V h26 0 0 24 [(0, .ref a0), (1, .int i1), (2, .int i2)] [.int (bI (if r25 = false then true else false)), .ref a0] := by
      exact r_sub C [0, 1, 2] rfl (b_X3_ifHung_24 C _ _ _ _ _ _ hw)
    refine r_if_eq_b (tgt := 23) C (by decide) dX3_ifHung_16 (fun hc27 => ?_) (fun hc27 => ?_)
    · have hJ28 := hJ
      try simp only [if_pos hc27] at hJ28
      refine r_iconst (v := (1 : Int32)) C (by decide) dX3_ifHung_23 ?_
      exact r_sub C [0, 1, 2] rfl hJ28
    · have hJ28 := hJ
      try simp only [if_neg (show ¬ r25 = false from by rw [hc27]; decide)] at hJ28
      refine r_iconst (v := (0 : Int32)) C (by decide) dX3_ifHung_19 (r_goto (tgt := 24) C (by decide) dX3_ifHung_20 ?_)
      exact r_sub C [0, 1, 2] rfl hJ28
def B_X3_inYear_62 (Q : Int32 → Hp → Prop) (LA25 : Hp → Nat → Int32 → Int32 → Int32 → Prop) (h : Hp) (x0 : Nat) (x1 : Int32) (x3 : Int32) (s0 : Int32) (s1 : Bool) : Prop :=
  LA25 h x0 x1 (s0 + (bI s1)) (x3 + (1 : Int32))
def S_X3_inYear_25 (Q : Int32 → Hp → Prop) (LA25 : Hp → Nat → Int32 → Int32 → Int32 → Prop) (h : Hp) (x0 : Nat) (x1 : Int32) (x2 : Int32) (x3 : Int32) : Prop :=
  gfR h x0 2 1 (fun v1 => nn v1 (fun y2 => rdI h y2 (2 : Int32) (fun v3 => (v3 ≤ x3 → Q x2 h) ∧ (¬ v3 ≤ x3 → gfR h x0 2 1 (fun v5 => nn v5 (fun y6 => hasC h x0 2 ∧ (w_X3_fake x0 y6 x3 h (fun r8 h9 => (¬ r8 = 0 → B_X3_inYear_62 Q LA25 h9 x0 x1 x3 x2 false) ∧ (r8 = 0 → hasC h9 x0 2 ∧ (w_X3_can x0 x3 x1 h9 (fun r12 h13 => B_X3_inYear_62 Q LA25 h13 x0 x1 x3 x2 (if r12 = false then false else true))))))))))))
def B_X3_inYear_25 (Q : Int32 → Hp → Prop) : Nat → Hp → Nat → Int32 → Int32 → Int32 → Prop
  | 0, _, _, _, _, _ => False
  | k + 1, h, x0, x1, x2, x3 => S_X3_inYear_25 Q (B_X3_inYear_25 Q k) h x0 x1 x2 x3
def w_X3_inYear (a0 : Nat) (i1 : Int32) (h : Hp) (Q : Int32 → Hp → Prop) : Prop :=
  w_X3_isYear i1 h (fun r16 h17 => hasC h17 a0 2 ∧ (w_X3_refused a0 (bI (if r16 = false then true else false)) h17 (fun r19 h20 => (r19 = false → ∃ k9 : Nat, B_X3_inYear_25 Q k9 h20 a0 i1 (0 : Int32) (0 : Int32)) ∧ (r19 = true → Q (0 : Int32) h20))))
theorem b_X3_inYear_62 {G : gT} {l : Launch} {V : Hp → Nat → Nat → Nat → List (Nat × Value) → List Value → Prop} {Q : Int32 → Hp → Prop} (C : Cx G l V cX3_inYear 4 RX3 8 178 0 0 (pI Q) none (some .int) [] false) (LA25 : Hp → Nat → Int32 → Int32 → Int32 → Prop) (hLA25 : ∀ (h : Hp) (x0 : Nat) (x1 : Int32) (x2 : Int32) (x3 : Int32), LA25 h x0 x1 x2 x3 → V h 0 0 25 [(0, .ref x0), (1, .int x1), (2, .int x2), (3, .int x3)] []) (h : Hp) (x0 : Nat) (x1 : Int32) (x3 : Int32) (s0 : Int32) (s1 : Bool) (hw : B_X3_inYear_62 Q LA25 h x0 x1 x3 s0 s1) : V h 0 0 62 [(0, .ref x0), (1, .int x1), (3, .int x3)] [.int (bI s1), .int s0] := by
  unfold B_X3_inYear_62 at hw
  refine r_iadd C dX3_inYear_62 (r_istore_n (L' := [(2, .int (s0 + (bI s1))), (0, .ref x0), (1, .int x1), (3, .int x3)]) C rfl (by decide) rfl dX3_inYear_63 (r_iinc (v := x3 + (1 : Int32)) (L' := [(3, .int (x3 + (1 : Int32))), (2, .int (s0 + (bI s1))), (0, .ref x0), (1, .int x1)]) C (u := 3) rfl (by rfl) (by decide) rfl dX3_inYear_64 (r_goto (tgt := 25) C (by decide) dX3_inYear_67 ?_)))
  exact r_sub C [2, 3, 1, 0] rfl (hLA25 _ _ _ _ _ hw)
theorem s_X3_inYear_25 {G : gT} {l : Launch} {V : Hp → Nat → Nat → Nat → List (Nat × Value) → List Value → Prop} {Q : Int32 → Hp → Prop} (C : Cx G l V cX3_inYear 4 RX3 8 178 0 0 (pI Q) none (some .int) [] false) (LA25 : Hp → Nat → Int32 → Int32 → Int32 → Prop) (hLA25 : ∀ (h : Hp) (x0 : Nat) (x1 : Int32) (x2 : Int32) (x3 : Int32), LA25 h x0 x1 x2 x3 → V h 0 0 25 [(0, .ref x0), (1, .int x1), (2, .int x2), (3, .int x3)] []) (h : Hp) (x0 : Nat) (x1 : Int32) (x2 : Int32) (x3 : Int32) (hw : S_X3_inYear_25 Q LA25 h x0 x1 x2 x3) : V h 0 0 25 [(0, .ref x0), (1, .int x1), (2, .int x2), (3, .int x3)] [] := by
  unfold S_X3_inYear_25 at hw
  refine r_iload_n C rfl 3 rfl dX3_inYear_25 (r_aload_n C rfl 0 rfl dX3_inYear_26 ?_)
  refine r_gfR (k := 1) C kX3 (by decide) (Or.inl q2156) (Or.inl rfl) dX3_inYear_27 hw (fun v1 hw => ?_)
  refine r_iconst (v := (2 : Int32)) C (by decide) dX3_inYear_30 ?_
  obtain ⟨y2, rfl, hw_y2⟩ := hw
  have hw := hw_y2
  refine r_iaload C dX3_inYear_31 hw (fun v3 hw => ?_)
  refine r_icmp_ge (tgt := 70) C (by decide) dX3_inYear_32 (fun hc4 => ?_) (fun hc4 => ?_)
  · have hw := hw.1 hc4
    refine r_iload_n C rfl 2 rfl dX3_inYear_70 ?_
    exact r_ireturn C dX3_inYear_71 (Nat.le_refl _) (Nat.le_refl _) ⟨_, rfl, hw⟩
  · have hw := hw.2 hc4
    refine r_iload_n C rfl 2 rfl dX3_inYear_35 (r_aload_n C rfl 0 rfl dX3_inYear_36 (r_aload_n C rfl 0 rfl dX3_inYear_37 ?_))
    refine r_gfR (k := 1) C kX3 (by decide) (Or.inl q2156) (Or.inl rfl) dX3_inYear_38 hw (fun v5 hw => ?_)
    refine r_iload_n C rfl 3 rfl dX3_inYear_41 ?_
    obtain ⟨y6, rfl, hw_y6⟩ := hw
    have hw := hw_y6
    obtain ⟨hq7, hw⟩ := hw
    refine r_callV (ci := 2) (rest := [.int x2]) (As := [.ref y6, .int x3]) C sg_X3_fake rfl rfl q2339 q2341 qs54 q90 q2342 rfl (Nat.le_of_ble_eq_true rfl) dX3_inYear_42 rfl hq7 (Nat.le_refl _) (Nat.le_refl _) (c_X3_fake G l x0 y6 x3 h _ hw) (k_I (fun r8 h9 hw => ?_))
    refine r_if_ne (tgt := 61) C (by decide) dX3_inYear_45 (fun hc10 => ?_) (fun hc10 => ?_)
    · have hw := hw.1 hc10
      refine r_iconst (v := (0 : Int32)) C (by decide) dX3_inYear_61 ?_
      exact r_sub C [0, 1, 3] rfl (b_X3_inYear_62 C LA25 hLA25 _ _ _ _ _ _ hw)
    · have hw := hw.2 hc10
      refine r_aload_n C rfl 0 rfl dX3_inYear_48 (r_iload_n C rfl 3 rfl dX3_inYear_49 (r_iload_n C rfl 1 rfl dX3_inYear_50 ?_))
      obtain ⟨hq11, hw⟩ := hw
      refine r_callV (ci := 2) (rest := [.int x2]) (As := [.int x3, .int x1]) C sg_X3_can rfl rfl q2444 q2446 qs63 q90 q2447 rfl (Nat.le_of_ble_eq_true rfl) dX3_inYear_51 rfl hq11 (Nat.le_refl _) (Nat.le_refl _) (c_X3_can G l x0 x3 x1 h9 _ hw) (k_Z (fun r12 h13 hw => ?_))
      have hJ : V h13 0 0 62 [(0, .ref x0), (1, .int x1), (3, .int x3)] [.int (bI (if r12 = false then false else true)), .int x2] := by
        exact r_sub C [0, 1, 2] rfl (b_X3_inYear_62 C LA25 hLA25 _ _ _ _ _ _ hw)
      refine r_if_eq_b (tgt := 61) C (by decide) dX3_inYear_54 (fun hc14 => ?_) (fun hc14 => ?_)
      · have hJ15 := hJ
        try simp only [if_pos hc14] at hJ15
        refine r_iconst (v := (0 : Int32)) C (by decide) dX3_inYear_61 ?_
        exact r_sub C [0, 1, 3] rfl hJ15
      · have hJ15 := hJ
        try simp only [if_neg (show ¬ r12 = false from by rw [hc14]; decide)] at hJ15
        refine r_iconst (v := (1 : Int32)) C (by decide) dX3_inYear_57 (r_goto (tgt := 62) C (by decide) dX3_inYear_58 ?_)
        exact r_sub C [0, 1, 3] rfl hJ15
theorem b_X3_inYear_25 {G : gT} {l : Launch} {V : Hp → Nat → Nat → Nat → List (Nat × Value) → List Value → Prop} {Q : Int32 → Hp → Prop} (C : Cx G l V cX3_inYear 4 RX3 8 178 0 0 (pI Q) none (some .int) [] false) : ∀ (k : Nat) (h : Hp) (x0 : Nat) (x1 : Int32) (x2 : Int32) (x3 : Int32), B_X3_inYear_25 Q k h x0 x1 x2 x3 → V h 0 0 25 [(0, .ref x0), (1, .int x1), (2, .int x2), (3, .int x3)] [] := by
  intro k
  induction k with
  | zero =>
    intro h x0 x1 x2 x3 hw
    exact hw.elim
  | succ k ih =>
    intro h x0 x1 x2 x3 hw
    exact s_X3_inYear_25 C _ (fun h x0 x1 x2 x3 hw => ih h x0 x1 x2 x3 hw) h x0 x1 x2 x3 hw
theorem sg_X3_inYear : ySg yX3_inYear 1 = true := by decide +kernel
theorem c_X3_inYear (G : gT) (l : Launch) (a0 : Nat) (i1 : Int32) (h : Hp) (Q : Int32 → Hp → Prop) (hw : w_X3_inYear a0 i1 h Q) : Ct G l yX3_inYear (ws_ yX3_inYear cX3_inYear 4 (some .int)) 8 178 0 0 [.ref a0, .int i1] h (pI Q) := by
  refine Ct.of (own := RX3) false (by decide +kernel) rfl (show (_ : Nat) ≤ _ from Nat.le_of_ble_eq_true rfl) (fun z => by cases z) (fun V C => ?_)
  show V h 0 0 0 [(0, .ref a0), (1, .int i1)] []
  unfold w_X3_inYear at hw
  refine r_aload_n C rfl 0 rfl dX3_inYear_0 (r_iload_n C rfl 1 rfl dX3_inYear_1 ?_)
  refine r_callS (rest := [.ref a0]) (As := [.int i1]) C sg_X3_isYear q2439 q2440 q90 q2441 rfl (Nat.le_of_ble_eq_true rfl) dX3_inYear_2 rfl (Nat.le_refl _) (Nat.le_refl _) (c_X3_isYear G l i1 h _ hw) (k_Z (fun r16 h17 hw => ?_))
  have hJ : V h17 0 0 13 [(0, .ref a0), (1, .int i1)] [.int (bI (if r16 = false then true else false)), .ref a0] := by
    obtain ⟨hq18, hw⟩ := hw
    refine r_callV (ci := 2) (rest := []) (As := [.int (bI (if r16 = false then true else false))]) C sg_X3_refused rfl rfl q2222 q2224 qs38 q90 q2225 rfl (Nat.le_of_ble_eq_true rfl) dX3_inYear_13 rfl hq18 (Nat.le_refl _) (Nat.le_refl _) (c_X3_refused G l a0 (bI (if r16 = false then true else false)) h17 _ hw) (k_Z (fun r19 h20 hw => ?_))
    refine r_if_eq_b (tgt := 21) C (by decide) dX3_inYear_16 (fun hc21 => ?_) (fun hc21 => ?_)
    · have hw := hw.1 hc21
      refine r_iconst (v := (0 : Int32)) C (by decide) dX3_inYear_21 (r_istore_n (L' := [(2, .int (0 : Int32)), (0, .ref a0), (1, .int i1)]) C rfl (by decide) rfl dX3_inYear_22 (r_iconst (v := (0 : Int32)) C (by decide) dX3_inYear_23 (r_istore_n (L' := [(3, .int (0 : Int32)), (2, .int (0 : Int32)), (0, .ref a0), (1, .int i1)]) C rfl (by decide) rfl dX3_inYear_24 ?_)))
      obtain ⟨k9, hw⟩ := hw
      exact r_sub C [2, 3, 1, 0] rfl (b_X3_inYear_25 C _ _ _ _ _ _ hw)
    · have hw := hw.2 hc21
      refine r_iconst (v := (0 : Int32)) C (by decide) dX3_inYear_19 ?_
      exact r_ireturn C dX3_inYear_20 (Nat.le_refl _) (Nat.le_refl _) ⟨_, rfl, hw⟩
  refine r_if_eq_b (tgt := 12) C (by decide) dX3_inYear_5 (fun hc22 => ?_) (fun hc22 => ?_)
  · have hJ23 := hJ
    try simp only [if_pos hc22] at hJ23
    refine r_iconst (v := (1 : Int32)) C (by decide) dX3_inYear_12 ?_
    exact r_sub C [0, 1] rfl hJ23
  · have hJ23 := hJ
    try simp only [if_neg (show ¬ r16 = false from by rw [hc22]; decide)] at hJ23
    refine r_iconst (v := (0 : Int32)) C (by decide) dX3_inYear_8 (r_goto (tgt := 13) C (by decide) dX3_inYear_9 ?_)
    exact r_sub C [0, 1] rfl hJ23
def S_X3_leastBubbles_41 (Q : Int32 → Hp → Prop) (LA41 : Hp → Nat → Int32 → Int32 → Int32 → Prop) (h : Hp) (x0 : Nat) (x1 : Int32) (x2 : Int32) (x3 : Int32) : Prop :=
  ((100 : Int32) ≤ x3 → Q (-1 : Int32) h) ∧ (¬ (100 : Int32) ≤ x3 → gfR h x0 2 2 (fun v2 => nn v2 (fun y4 => wrI h y4 ((3 : Int32) + x1) x3 (fun h3 => gfR h3 x0 2 2 (fun v5 => nn v5 (fun y6 => hasC h3 x0 2 ∧ (w_X3_fakes x0 y6 h3 (fun r8 h9 => (x2 < r8 → LA41 h9 x0 x1 x2 (x3 + (1 : Int32))) ∧ (¬ x2 < r8 → Q x3 h9)))))))))
def B_X3_leastBubbles_41 (Q : Int32 → Hp → Prop) : Nat → Hp → Nat → Int32 → Int32 → Int32 → Prop
  | 0, _, _, _, _, _ => False
  | k + 1, h, x0, x1, x2, x3 => S_X3_leastBubbles_41 Q (B_X3_leastBubbles_41 Q k) h x0 x1 x2 x3
def w_X3_leastBubbles (a0 : Nat) (i1 : Int32) (i2 : Int32) (h : Hp) (Q : Int32 → Hp → Prop) : Prop :=
  w_X3_in i1.toInt64 (0 : Int64) (1 : Int64) h (fun r11 h12 => hasC h12 a0 2 ∧ (w_X3_refused a0 (bI (if r11 = false then true else (if i2 < 0 then true else false))) h12 (fun r14 h15 => (r14 = false → gfR h15 a0 2 1 (fun v17 => gfR h15 a0 2 2 (fun v18 => nn v17 (fun y19 => nn v18 (fun y20 => w_X3_copy y19 y20 h15 (fun h22 => ∃ k9 : Nat, B_X3_leastBubbles_41 Q k9 h22 a0 i1 i2 (0 : Int32))))))) ∧ (r14 = true → Q (0 : Int32) h15))))
theorem s_X3_leastBubbles_41 {G : gT} {l : Launch} {V : Hp → Nat → Nat → Nat → List (Nat × Value) → List Value → Prop} {Q : Int32 → Hp → Prop} (C : Cx G l V cX3_leastBubbles 4 RX3 9 201 0 0 (pI Q) none (some .int) [] false) (LA41 : Hp → Nat → Int32 → Int32 → Int32 → Prop) (hLA41 : ∀ (h : Hp) (x0 : Nat) (x1 : Int32) (x2 : Int32) (x3 : Int32), LA41 h x0 x1 x2 x3 → V h 0 0 41 [(0, .ref x0), (1, .int x1), (2, .int x2), (3, .int x3)] []) (h : Hp) (x0 : Nat) (x1 : Int32) (x2 : Int32) (x3 : Int32) (hw : S_X3_leastBubbles_41 Q LA41 h x0 x1 x2 x3) : V h 0 0 41 [(0, .ref x0), (1, .int x1), (2, .int x2), (3, .int x3)] [] := by
  unfold S_X3_leastBubbles_41 at hw
  refine r_iload_n C rfl 3 rfl dX3_leastBubbles_41 (r_bipush (v := (100 : Int32)) C (by decide) dX3_leastBubbles_42 ?_)
  refine r_icmp_ge (tgt := 76) C (by decide) dX3_leastBubbles_44 (fun hc1 => ?_) (fun hc1 => ?_)
  · have hw := hw.1 hc1
    refine r_iconst (v := (-1 : Int32)) C (by decide) dX3_leastBubbles_76 ?_
    exact r_ireturn C dX3_leastBubbles_77 (Nat.le_refl _) (Nat.le_refl _) ⟨_, rfl, hw⟩
  · have hw := hw.2 hc1
    refine r_aload_n C rfl 0 rfl dX3_leastBubbles_47 ?_
    refine r_gfR (k := 2) C kX3 (by decide) (Or.inl q2157) (Or.inl rfl) dX3_leastBubbles_48 hw (fun v2 hw => ?_)
    refine r_iconst (v := (3 : Int32)) C (by decide) dX3_leastBubbles_51 (r_iload_n C rfl 1 rfl dX3_leastBubbles_52 (r_iadd C dX3_leastBubbles_53 (r_iload_n C rfl 3 rfl dX3_leastBubbles_54 ?_)))
    obtain ⟨y4, rfl, hw_y4⟩ := hw
    have hw := hw_y4
    refine r_iastore C dX3_leastBubbles_55 hw (fun h3 hw => ?_)
    refine r_aload_n C rfl 0 rfl dX3_leastBubbles_56 (r_aload_n C rfl 0 rfl dX3_leastBubbles_57 ?_)
    refine r_gfR (k := 2) C kX3 (by decide) (Or.inl q2157) (Or.inl rfl) dX3_leastBubbles_58 hw (fun v5 hw => ?_)
    obtain ⟨y6, rfl, hw_y6⟩ := hw
    have hw := hw_y6
    obtain ⟨hq7, hw⟩ := hw
    refine r_callV (ci := 2) (rest := []) (As := [.ref y6]) C sg_X3_fakes rfl rfl q2335 q2337 qs53 q90 q2338 rfl (Nat.le_of_ble_eq_true rfl) dX3_leastBubbles_61 rfl hq7 (Nat.le_refl _) (Nat.le_refl _) (c_X3_fakes G l x0 y6 h3 _ hw) (k_I (fun r8 h9 hw => ?_))
    refine r_iload_n C rfl 2 rfl dX3_leastBubbles_64 ?_
    refine r_icmp_gt (tgt := 70) C (by decide) dX3_leastBubbles_65 (fun hc10 => ?_) (fun hc10 => ?_)
    · have hw := hw.1 hc10
      refine r_iinc (v := x3 + (1 : Int32)) (L' := [(3, .int (x3 + (1 : Int32))), (0, .ref x0), (1, .int x1), (2, .int x2)]) C (u := 3) rfl (by rfl) (by decide) rfl dX3_leastBubbles_70 (r_goto (tgt := 41) C (by decide) dX3_leastBubbles_73 ?_)
      exact r_sub C [1, 2, 3, 0] rfl (hLA41 _ _ _ _ _ hw)
    · have hw := hw.2 hc10
      refine r_iload_n C rfl 3 rfl dX3_leastBubbles_68 ?_
      exact r_ireturn C dX3_leastBubbles_69 (Nat.le_refl _) (Nat.le_refl _) ⟨_, rfl, hw⟩
theorem b_X3_leastBubbles_41 {G : gT} {l : Launch} {V : Hp → Nat → Nat → Nat → List (Nat × Value) → List Value → Prop} {Q : Int32 → Hp → Prop} (C : Cx G l V cX3_leastBubbles 4 RX3 9 201 0 0 (pI Q) none (some .int) [] false) : ∀ (k : Nat) (h : Hp) (x0 : Nat) (x1 : Int32) (x2 : Int32) (x3 : Int32), B_X3_leastBubbles_41 Q k h x0 x1 x2 x3 → V h 0 0 41 [(0, .ref x0), (1, .int x1), (2, .int x2), (3, .int x3)] [] := by
  intro k
  induction k with
  | zero =>
    intro h x0 x1 x2 x3 hw
    exact hw.elim
  | succ k ih =>
    intro h x0 x1 x2 x3 hw
    exact s_X3_leastBubbles_41 C _ (fun h x0 x1 x2 x3 hw => ih h x0 x1 x2 x3 hw) h x0 x1 x2 x3 hw
theorem sg_X3_leastBubbles : ySg yX3_leastBubbles 2 = true := by decide +kernel
theorem c_X3_leastBubbles (G : gT) (l : Launch) (a0 : Nat) (i1 : Int32) (i2 : Int32) (h : Hp) (Q : Int32 → Hp → Prop) (hw : w_X3_leastBubbles a0 i1 i2 h Q) : Ct G l yX3_leastBubbles (ws_ yX3_leastBubbles cX3_leastBubbles 4 (some .int)) 9 201 0 0 [.ref a0, .int i1, .int i2] h (pI Q) := by
  refine Ct.of (own := RX3) false (by decide +kernel) rfl (show (_ : Nat) ≤ _ from Nat.le_of_ble_eq_true rfl) (fun z => by cases z) (fun V C => ?_)
  show V h 0 0 0 [(0, .ref a0), (1, .int i1), (2, .int i2)] []
  unfold w_X3_leastBubbles at hw
  refine r_aload_n C rfl 0 rfl dX3_leastBubbles_0 (r_iload_n C rfl 1 rfl dX3_leastBubbles_1 (r_i2l C dX3_leastBubbles_2 (r_lconst (v := (0 : Int64)) C (by decide) dX3_leastBubbles_3 (r_lconst (v := (1 : Int64)) C (by decide) dX3_leastBubbles_4 ?_))))
  refine r_callS (rest := [.ref a0]) (As := [.long i1.toInt64, .long (0 : Int64), .long (1 : Int64)]) C sg_X3_in q2219 q2220 q90 q2221 rfl (Nat.le_of_ble_eq_true rfl) dX3_leastBubbles_5 rfl (Nat.le_refl _) (Nat.le_refl _) (c_X3_in G l i1.toInt64 (0 : Int64) (1 : Int64) h _ hw) (k_Z (fun r11 h12 hw => ?_))
  have hJ : V h12 0 0 20 [(0, .ref a0), (1, .int i1), (2, .int i2)] [.int (bI (if r11 = false then true else (if i2 < 0 then true else false))), .ref a0] := by
    obtain ⟨hq13, hw⟩ := hw
    refine r_callV (ci := 2) (rest := []) (As := [.int (bI (if r11 = false then true else (if i2 < 0 then true else false)))]) C sg_X3_refused rfl rfl q2222 q2224 qs38 q90 q2225 rfl (Nat.le_of_ble_eq_true rfl) dX3_leastBubbles_20 rfl hq13 (Nat.le_refl _) (Nat.le_refl _) (c_X3_refused G l a0 (bI (if r11 = false then true else (if i2 < 0 then true else false))) h12 _ hw) (k_Z (fun r14 h15 hw => ?_))
    refine r_if_eq_b (tgt := 28) C (by decide) dX3_leastBubbles_23 (fun hc16 => ?_) (fun hc16 => ?_)
    · have hw := hw.1 hc16
      refine r_aload_n C rfl 0 rfl dX3_leastBubbles_28 ?_
      refine r_gfR (k := 1) C kX3 (by decide) (Or.inl q2156) (Or.inl rfl) dX3_leastBubbles_29 hw (fun v17 hw => ?_)
      refine r_aload_n C rfl 0 rfl dX3_leastBubbles_32 ?_
      refine r_gfR (k := 2) C kX3 (by decide) (Or.inl q2157) (Or.inl rfl) dX3_leastBubbles_33 hw (fun v18 hw => ?_)
      obtain ⟨y19, rfl, hw_y19⟩ := hw
      have hw := hw_y19
      obtain ⟨y20, rfl, hw_y20⟩ := hw
      have hw := hw_y20
      refine r_callS (rest := []) (As := [.ref y19, .ref y20]) C sg_X3_copy q2327 q2328 q90 q2329 rfl (Nat.le_of_ble_eq_true rfl) dX3_leastBubbles_36 rfl (Nat.le_refl _) (Nat.le_refl _) (c_X3_copy G l y19 y20 h15 _ hw) (k_V (fun h22 hw => ?_))
      refine r_iconst (v := (0 : Int32)) C (by decide) dX3_leastBubbles_39 (r_istore_n (L' := [(3, .int (0 : Int32)), (0, .ref a0), (1, .int i1), (2, .int i2)]) C rfl (by decide) rfl dX3_leastBubbles_40 ?_)
      obtain ⟨k9, hw⟩ := hw
      exact r_sub C [1, 2, 3, 0] rfl (b_X3_leastBubbles_41 C _ _ _ _ _ _ hw)
    · have hw := hw.2 hc16
      refine r_iconst (v := (0 : Int32)) C (by decide) dX3_leastBubbles_26 ?_
      exact r_ireturn C dX3_leastBubbles_27 (Nat.le_refl _) (Nat.le_refl _) ⟨_, rfl, hw⟩
  refine r_if_eq_b (tgt := 19) C (by decide) dX3_leastBubbles_8 (fun hc23 => ?_) (fun hc23 => ?_)
  · have hJ24 := hJ
    try simp only [if_pos hc23] at hJ24
    refine r_iconst (v := (1 : Int32)) C (by decide) dX3_leastBubbles_19 ?_
    exact r_sub C [0, 1, 2] rfl hJ24
  · have hJ24 := hJ
    try simp only [if_neg (show ¬ r11 = false from by rw [hc23]; decide)] at hJ24
    refine r_iload_n C rfl 2 rfl dX3_leastBubbles_11 ?_
    refine r_if_lt (tgt := 19) C (by decide) dX3_leastBubbles_12 (fun hc25 => ?_) (fun hc25 => ?_)
    · have hJ26 := hJ24
      try simp only [if_pos hc25] at hJ26
      refine r_iconst (v := (1 : Int32)) C (by decide) dX3_leastBubbles_19 ?_
      exact r_sub C [0, 1, 2] rfl hJ26
    · have hJ26 := hJ24
      try simp only [if_neg hc25] at hJ26
      refine r_iconst (v := (0 : Int32)) C (by decide) dX3_leastBubbles_15 (r_goto (tgt := 20) C (by decide) dX3_leastBubbles_16 ?_)
      exact r_sub C [0, 1, 2] rfl hJ26
def S_X3_tens_4 (Q : Int64 → Hp → Prop) (LA4 : Hp → Int32 → Int64 → Int32 → Prop) (h : Hp) (x0 : Int32) (x1 : Int64) (x3 : Int32) : Prop :=
  (x0 ≤ x3 → Q x1 h) ∧ (¬ x0 ≤ x3 → LA4 h x0 (x1 * (10 : Int64)) (x3 + (1 : Int32)))
def B_X3_tens_4 (Q : Int64 → Hp → Prop) : Nat → Hp → Int32 → Int64 → Int32 → Prop
  | 0, _, _, _, _ => False
  | k + 1, h, x0, x1, x3 => S_X3_tens_4 Q (B_X3_tens_4 Q k) h x0 x1 x3
def w_X3_tens (i0 : Int32) (h : Hp) (Q : Int64 → Hp → Prop) : Prop :=
  ∃ k9 : Nat, B_X3_tens_4 Q k9 h i0 (1 : Int64) (0 : Int32)
theorem s_X3_tens_4 {G : gT} {l : Launch} {V : Hp → Nat → Nat → Nat → List (Nat × Value) → List Value → Prop} {Q : Int64 → Hp → Prop} (C : Cx G l V cX3_tens 4 RX3 1 12 0 0 (pJ Q) none (some .long) [] false) (LA4 : Hp → Int32 → Int64 → Int32 → Prop) (hLA4 : ∀ (h : Hp) (x0 : Int32) (x1 : Int64) (x3 : Int32), LA4 h x0 x1 x3 → V h 0 0 4 [(0, .int x0), (1, .long x1), (3, .int x3)] []) (h : Hp) (x0 : Int32) (x1 : Int64) (x3 : Int32) (hw : S_X3_tens_4 Q LA4 h x0 x1 x3) : V h 0 0 4 [(0, .int x0), (1, .long x1), (3, .int x3)] [] := by
  unfold S_X3_tens_4 at hw
  refine r_iload_n C rfl 2 rfl dX3_tens_4 (r_iload_n C rfl 0 rfl dX3_tens_5 ?_)
  refine r_icmp_ge (tgt := 21) C (by decide) dX3_tens_6 (fun hc1 => ?_) (fun hc1 => ?_)
  · have hw := hw.1 hc1
    refine r_lload_n C rfl 1 rfl dX3_tens_21 ?_
    exact r_lreturn C dX3_tens_22 (Nat.le_refl _) (Nat.le_refl _) ⟨_, rfl, hw⟩
  · have hw := hw.2 hc1
    refine r_lload_n C rfl 1 rfl dX3_tens_9 (r_ldc2 (v := (10 : Int64)) C q2583 dX3_tens_10 (r_lmul C dX3_tens_13 (r_lstore_n (L' := [(1, .long (x1 * (10 : Int64))), (0, .int x0), (3, .int x3)]) C rfl (by decide) rfl dX3_tens_14 (r_iinc (v := x3 + (1 : Int32)) (L' := [(3, .int (x3 + (1 : Int32))), (1, .long (x1 * (10 : Int64))), (0, .int x0)]) C (u := 2) rfl (by rfl) (by decide) rfl dX3_tens_15 (r_goto (tgt := 4) C (by decide) dX3_tens_18 ?_)))))
    exact r_sub C [2, 1, 0] rfl (hLA4 _ _ _ _ hw)
theorem b_X3_tens_4 {G : gT} {l : Launch} {V : Hp → Nat → Nat → Nat → List (Nat × Value) → List Value → Prop} {Q : Int64 → Hp → Prop} (C : Cx G l V cX3_tens 4 RX3 1 12 0 0 (pJ Q) none (some .long) [] false) : ∀ (k : Nat) (h : Hp) (x0 : Int32) (x1 : Int64) (x3 : Int32), B_X3_tens_4 Q k h x0 x1 x3 → V h 0 0 4 [(0, .int x0), (1, .long x1), (3, .int x3)] [] := by
  intro k
  induction k with
  | zero =>
    intro h x0 x1 x3 hw
    exact hw.elim
  | succ k ih =>
    intro h x0 x1 x3 hw
    exact s_X3_tens_4 C _ (fun h x0 x1 x3 hw => ih h x0 x1 x3 hw) h x0 x1 x3 hw
theorem sg_X3_tens : ySg yX3_tens 1 = true := by decide +kernel
theorem c_X3_tens (G : gT) (l : Launch) (i0 : Int32) (h : Hp) (Q : Int64 → Hp → Prop) (hw : w_X3_tens i0 h Q) : Ct G l yX3_tens (ws_ yX3_tens cX3_tens 4 (some .long)) 1 12 0 0 [.int i0] h (pJ Q) := by
  refine Ct.of (own := RX3) false (by decide +kernel) rfl (show (_ : Nat) ≤ _ from Nat.le_of_ble_eq_true rfl) (fun z => by cases z) (fun V C => ?_)
  show V h 0 0 0 [(0, .int i0)] []
  unfold w_X3_tens at hw
  refine r_lconst (v := (1 : Int64)) C (by decide) dX3_tens_0 (r_lstore_n (L' := [(1, .long (1 : Int64)), (0, .int i0)]) C rfl (by decide) rfl dX3_tens_1 (r_iconst (v := (0 : Int32)) C (by decide) dX3_tens_2 (r_istore_n (L' := [(3, .int (0 : Int32)), (1, .long (1 : Int64)), (0, .int i0)]) C rfl (by decide) rfl dX3_tens_3 ?_)))
  obtain ⟨k9, hw⟩ := hw
  exact r_sub C [2, 1, 0] rfl (b_X3_tens_4 C _ _ _ _ _ hw)
def w_X3_runSet (a0 : Nat) (i1 : Int32) (i2 : Int32) (h : Hp) (Q : Bool → Hp → Prop) : Prop :=
  w_X3_in i1.toInt64 (0 : Int64) (1 : Int64) h (fun r1 h2 => (r1 = false → Q false h2) ∧ (r1 = true → gfR h2 a0 2 2 (fun v4 => nn v4 (fun y5 => w_X3_goSet y5 i1 i2 h2 (fun r6 h7 => Q (if r6 < 0 then false else true) h7)))))
theorem sg_X3_runSet : ySg yX3_runSet 2 = true := by decide +kernel
theorem c_X3_runSet (G : gT) (l : Launch) (a0 : Nat) (i1 : Int32) (i2 : Int32) (h : Hp) (Q : Bool → Hp → Prop) (hw : w_X3_runSet a0 i1 i2 h Q) : Ct G l yX3_runSet (ws_ yX3_runSet cX3_runSet 3 (some .boolean)) 2 37 0 0 [.ref a0, .int i1, .int i2] h (pZ Q) := by
  refine Ct.of (own := RX3) false (by decide +kernel) rfl (show (_ : Nat) ≤ _ from Nat.le_of_ble_eq_true rfl) (fun z => by cases z) (fun V C => ?_)
  show V h 0 0 0 [(0, .ref a0), (1, .int i1), (2, .int i2)] []
  unfold w_X3_runSet at hw
  refine r_iload_n C rfl 1 rfl dX3_runSet_0 (r_i2l C dX3_runSet_1 (r_lconst (v := (0 : Int64)) C (by decide) dX3_runSet_2 (r_lconst (v := (1 : Int64)) C (by decide) dX3_runSet_3 ?_)))
  refine r_callS (rest := []) (As := [.long i1.toInt64, .long (0 : Int64), .long (1 : Int64)]) C sg_X3_in q2219 q2220 q90 q2221 rfl (Nat.le_of_ble_eq_true rfl) dX3_runSet_4 rfl (Nat.le_refl _) (Nat.le_refl _) (c_X3_in G l i1.toInt64 (0 : Int64) (1 : Int64) h _ hw) (k_Z (fun r1 h2 hw => ?_))
  refine r_if_eq_b (tgt := 26) C (by decide) dX3_runSet_7 (fun hc3 => ?_) (fun hc3 => ?_)
  · have hw := hw.1 hc3
    refine r_iconst (v := (0 : Int32)) C (by decide) dX3_runSet_26 ?_
    exact r_zreturn (x := false) C dX3_runSet_27 (Nat.le_refl _) (Nat.le_refl _) ⟨_, rfl, hw⟩
  · have hw := hw.2 hc3
    refine r_aload_n C rfl 0 rfl dX3_runSet_10 ?_
    refine r_gfR (k := 2) C kX3 (by decide) (Or.inl q2157) (Or.inl rfl) dX3_runSet_11 hw (fun v4 hw => ?_)
    refine r_iload_n C rfl 1 rfl dX3_runSet_14 (r_iload_n C rfl 2 rfl dX3_runSet_15 ?_)
    obtain ⟨y5, rfl, hw_y5⟩ := hw
    have hw := hw_y5
    refine r_callS (rest := []) (As := [.ref y5, .int i1, .int i2]) C sg_X3_goSet q2545 q2546 q90 q2547 rfl (Nat.le_of_ble_eq_true rfl) dX3_runSet_16 rfl (Nat.le_refl _) (Nat.le_refl _) (c_X3_goSet G l y5 i1 i2 h2 _ hw) (k_I (fun r6 h7 hw => ?_))
    have hJ : V h7 0 0 27 [] [.int (bI (if r6 < 0 then false else true))] := by
      exact r_zreturn (x := (if r6 < 0 then false else true)) C dX3_runSet_27 (Nat.le_refl _) (Nat.le_refl _) ⟨_, rfl, hw⟩
    refine r_if_lt (tgt := 26) C (by decide) dX3_runSet_19 (fun hc8 => ?_) (fun hc8 => ?_)
    · have hJ9 := hJ
      try simp only [if_pos hc8] at hJ9
      refine r_iconst (v := (0 : Int32)) C (by decide) dX3_runSet_26 ?_
      exact r_sub C [] rfl hJ9
    · have hJ9 := hJ
      try simp only [if_neg hc8] at hJ9
      refine r_iconst (v := (1 : Int32)) C (by decide) dX3_runSet_22 (r_goto (tgt := 27) C (by decide) dX3_runSet_23 ?_)
      exact r_sub C [] rfl hJ9
def w_X3_runSort (a0 : Nat) (i1 : Int32) (h : Hp) (Q : Bool → Hp → Prop) : Prop :=
  w_X3_isShelf i1 h (fun r1 h2 => (r1 = false → Q false h2) ∧ (r1 = true → gfR h2 a0 2 2 (fun v4 => nn v4 (fun y5 => hasC h2 a0 2 ∧ (w_X3_goSort a0 y5 i1 h2 (fun r7 h8 => Q (if r7 < 0 then false else true) h8))))))
theorem sg_X3_runSort : ySg yX3_runSort 1 = true := by decide +kernel
theorem c_X3_runSort (G : gT) (l : Launch) (a0 : Nat) (i1 : Int32) (h : Hp) (Q : Bool → Hp → Prop) (hw : w_X3_runSort a0 i1 h Q) : Ct G l yX3_runSort (ws_ yX3_runSort cX3_runSort 2 (some .boolean)) 10 229 0 0 [.ref a0, .int i1] h (pZ Q) := by
  refine Ct.of (own := RX3) false (by decide +kernel) rfl (show (_ : Nat) ≤ _ from Nat.le_of_ble_eq_true rfl) (fun z => by cases z) (fun V C => ?_)
  show V h 0 0 0 [(0, .ref a0), (1, .int i1)] []
  unfold w_X3_runSort at hw
  refine r_iload_n C rfl 1 rfl dX3_runSort_0 ?_
  refine r_callS (rest := []) (As := [.int i1]) C sg_X3_isShelf q2460 q2461 q90 q2462 rfl (Nat.le_of_ble_eq_true rfl) dX3_runSort_1 rfl (Nat.le_refl _) (Nat.le_refl _) (c_X3_isShelf G l i1 h _ hw) (k_Z (fun r1 h2 hw => ?_))
  refine r_if_eq_b (tgt := 23) C (by decide) dX3_runSort_4 (fun hc3 => ?_) (fun hc3 => ?_)
  · have hw := hw.1 hc3
    refine r_iconst (v := (0 : Int32)) C (by decide) dX3_runSort_23 ?_
    exact r_zreturn (x := false) C dX3_runSort_24 (Nat.le_refl _) (Nat.le_refl _) ⟨_, rfl, hw⟩
  · have hw := hw.2 hc3
    refine r_aload_n C rfl 0 rfl dX3_runSort_7 (r_aload_n C rfl 0 rfl dX3_runSort_8 ?_)
    refine r_gfR (k := 2) C kX3 (by decide) (Or.inl q2157) (Or.inl rfl) dX3_runSort_9 hw (fun v4 hw => ?_)
    refine r_iload_n C rfl 1 rfl dX3_runSort_12 ?_
    obtain ⟨y5, rfl, hw_y5⟩ := hw
    have hw := hw_y5
    obtain ⟨hq6, hw⟩ := hw
    refine r_callV (ci := 2) (rest := []) (As := [.ref y5, .int i1]) C sg_X3_goSort rfl rfl q2533 q2535 qs65 q90 q2536 rfl (Nat.le_of_ble_eq_true rfl) dX3_runSort_13 rfl hq6 (Nat.le_refl _) (Nat.le_refl _) (c_X3_goSort G l a0 y5 i1 h2 _ hw) (k_I (fun r7 h8 hw => ?_))
    have hJ : V h8 0 0 24 [] [.int (bI (if r7 < 0 then false else true))] := by
      exact r_zreturn (x := (if r7 < 0 then false else true)) C dX3_runSort_24 (Nat.le_refl _) (Nat.le_refl _) ⟨_, rfl, hw⟩
    refine r_if_lt (tgt := 23) C (by decide) dX3_runSort_16 (fun hc9 => ?_) (fun hc9 => ?_)
    · have hJ10 := hJ
      try simp only [if_pos hc9] at hJ10
      refine r_iconst (v := (0 : Int32)) C (by decide) dX3_runSort_23 ?_
      exact r_sub C [] rfl hJ10
    · have hJ10 := hJ
      try simp only [if_neg hc9] at hJ10
      refine r_iconst (v := (1 : Int32)) C (by decide) dX3_runSort_19 (r_goto (tgt := 24) C (by decide) dX3_runSort_20 ?_)
      exact r_sub C [] rfl hJ10
def w_X3_runShow (a0 : Nat) (i1 : Int32) (i2 : Int32) (h : Hp) (Q : Bool → Hp → Prop) : Prop :=
  gfR h a0 2 2 (fun v1 => nn v1 (fun y2 => w_X3_hasSeal y2 i1 h (fun r3 h4 => (r3 = false → Q false h4) ∧ (r3 = true → gfR h4 a0 2 2 (fun v6 => gfR h4 a0 2 2 (fun v7 => nn v7 (fun y8 => rdI h4 y8 ((105 : Int32) + i1) (fun v9 => nn v6 (fun y10 => w_X3_areCracks y10 v9 i2 h4 (fun r11 h12 => (r11 = false → Q false h12) ∧ (r11 = true → gfR h12 a0 2 2 (fun v14 => nn v14 (fun y15 => w_X3_goShow y15 i1 i2 h12 (fun r16 h17 => Q (if r16 < 0 then false else true) h17))))))))))))))
theorem sg_X3_runShow : ySg yX3_runShow 2 = true := by decide +kernel
theorem c_X3_runShow (G : gT) (l : Launch) (a0 : Nat) (i1 : Int32) (i2 : Int32) (h : Hp) (Q : Bool → Hp → Prop) (hw : w_X3_runShow a0 i1 i2 h Q) : Ct G l yX3_runShow (ws_ yX3_runShow cX3_runShow 3 (some .boolean)) 3 59 0 0 [.ref a0, .int i1, .int i2] h (pZ Q) := by
  refine Ct.of (own := RX3) false (by decide +kernel) rfl (show (_ : Nat) ≤ _ from Nat.le_of_ble_eq_true rfl) (fun z => by cases z) (fun V C => ?_)
  show V h 0 0 0 [(0, .ref a0), (1, .int i1), (2, .int i2)] []
  unfold w_X3_runShow at hw
  refine r_aload_n C rfl 0 rfl dX3_runShow_0 ?_
  refine r_gfR (k := 2) C kX3 (by decide) (Or.inl q2157) (Or.inl rfl) dX3_runShow_1 hw (fun v1 hw => ?_)
  refine r_iload_n C rfl 1 rfl dX3_runShow_4 ?_
  obtain ⟨y2, rfl, hw_y2⟩ := hw
  have hw := hw_y2
  refine r_callS (rest := []) (As := [.ref y2, .int i1]) C sg_X3_hasSeal q2304 q2305 q90 q2306 rfl (Nat.le_of_ble_eq_true rfl) dX3_runShow_5 rfl (Nat.le_refl _) (Nat.le_refl _) (c_X3_hasSeal G l y2 i1 h _ hw) (k_Z (fun r3 h4 hw => ?_))
  refine r_if_eq_b (tgt := 47) C (by decide) dX3_runShow_8 (fun hc5 => ?_) (fun hc5 => ?_)
  · have hw := hw.1 hc5
    refine r_iconst (v := (0 : Int32)) C (by decide) dX3_runShow_47 ?_
    exact r_zreturn (x := false) C dX3_runShow_48 (Nat.le_refl _) (Nat.le_refl _) ⟨_, rfl, hw⟩
  · have hw := hw.2 hc5
    refine r_aload_n C rfl 0 rfl dX3_runShow_11 ?_
    refine r_gfR (k := 2) C kX3 (by decide) (Or.inl q2157) (Or.inl rfl) dX3_runShow_12 hw (fun v6 hw => ?_)
    refine r_aload_n C rfl 0 rfl dX3_runShow_15 ?_
    refine r_gfR (k := 2) C kX3 (by decide) (Or.inl q2157) (Or.inl rfl) dX3_runShow_16 hw (fun v7 hw => ?_)
    refine r_bipush (v := (105 : Int32)) C (by decide) dX3_runShow_19 (r_iload_n C rfl 1 rfl dX3_runShow_21 (r_iadd C dX3_runShow_22 ?_))
    obtain ⟨y8, rfl, hw_y8⟩ := hw
    have hw := hw_y8
    refine r_iaload C dX3_runShow_23 hw (fun v9 hw => ?_)
    refine r_iload_n C rfl 2 rfl dX3_runShow_24 ?_
    obtain ⟨y10, rfl, hw_y10⟩ := hw
    have hw := hw_y10
    refine r_callS (rest := []) (As := [.ref y10, .int v9, .int i2]) C sg_X3_areCracks q2317 q2318 q90 q2319 rfl (Nat.le_of_ble_eq_true rfl) dX3_runShow_25 rfl (Nat.le_refl _) (Nat.le_refl _) (c_X3_areCracks G l y10 v9 i2 h4 _ hw) (k_Z (fun r11 h12 hw => ?_))
    refine r_if_eq_b (tgt := 47) C (by decide) dX3_runShow_28 (fun hc13 => ?_) (fun hc13 => ?_)
    · have hw := hw.1 hc13
      refine r_iconst (v := (0 : Int32)) C (by decide) dX3_runShow_47 ?_
      exact r_zreturn (x := false) C dX3_runShow_48 (Nat.le_refl _) (Nat.le_refl _) ⟨_, rfl, hw⟩
    · have hw := hw.2 hc13
      refine r_aload_n C rfl 0 rfl dX3_runShow_31 ?_
      refine r_gfR (k := 2) C kX3 (by decide) (Or.inl q2157) (Or.inl rfl) dX3_runShow_32 hw (fun v14 hw => ?_)
      refine r_iload_n C rfl 1 rfl dX3_runShow_35 (r_iload_n C rfl 2 rfl dX3_runShow_36 ?_)
      obtain ⟨y15, rfl, hw_y15⟩ := hw
      have hw := hw_y15
      refine r_callS (rest := []) (As := [.ref y15, .int i1, .int i2]) C sg_X3_goShow q2495 q2496 q90 q2497 rfl (Nat.le_of_ble_eq_true rfl) dX3_runShow_37 rfl (Nat.le_refl _) (Nat.le_refl _) (c_X3_goShow G l y15 i1 i2 h12 _ hw) (k_I (fun r16 h17 hw => ?_))
      have hJ : V h17 0 0 48 [] [.int (bI (if r16 < 0 then false else true))] := by
        exact r_zreturn (x := (if r16 < 0 then false else true)) C dX3_runShow_48 (Nat.le_refl _) (Nat.le_refl _) ⟨_, rfl, hw⟩
      refine r_if_lt (tgt := 47) C (by decide) dX3_runShow_40 (fun hc18 => ?_) (fun hc18 => ?_)
      · have hJ19 := hJ
        try simp only [if_pos hc18] at hJ19
        refine r_iconst (v := (0 : Int32)) C (by decide) dX3_runShow_47 ?_
        exact r_sub C [] rfl hJ19
      · have hJ19 := hJ
        try simp only [if_neg hc18] at hJ19
        refine r_iconst (v := (1 : Int32)) C (by decide) dX3_runShow_43 (r_goto (tgt := 48) C (by decide) dX3_runShow_44 ?_)
        exact r_sub C [] rfl hJ19
def w_X3_runShelve (a0 : Nat) (i1 : Int32) (i2 : Int32) (i3 : Int32) (h : Hp) (Q : Bool → Hp → Prop) : Prop :=
  gfR h a0 2 2 (fun v1 => nn v1 (fun y2 => w_X3_hasSeal y2 i1 h (fun r3 h4 => (r3 = false → Q false h4) ∧ (r3 = true → w_X3_isShelf i2 h4 (fun r6 h7 => (r6 = false → Q false h7) ∧ (r6 = true → gfR h7 a0 2 2 (fun v9 => nn v9 (fun y10 => w_X3_others y10 i1 i2 h7 (fun r11 h12 => w_X3_in i3.toInt64 (0 : Int64) r11.toInt64 h12 (fun r13 h14 => (r13 = false → Q false h14) ∧ (r13 = true → gfR h14 a0 2 2 (fun v16 => nn v16 (fun y17 => w_X3_canShelve y17 i1 i2 h14 (fun r18 h19 => (r18 = false → Q false h19) ∧ (r18 = true → gfR h19 a0 2 2 (fun v21 => nn v21 (fun y22 => w_X3_goShelve y22 i1 i2 i3 h19 (fun r23 h24 => Q (if r23 ≤ 0 then false else true) h24))))))))))))))))))
theorem sg_X3_runShelve : ySg yX3_runShelve 3 = true := by decide +kernel
theorem c_X3_runShelve (G : gT) (l : Launch) (a0 : Nat) (i1 : Int32) (i2 : Int32) (i3 : Int32) (h : Hp) (Q : Bool → Hp → Prop) (hw : w_X3_runShelve a0 i1 i2 i3 h Q) : Ct G l yX3_runShelve (ws_ yX3_runShelve cX3_runShelve 4 (some .boolean)) 5 107 0 0 [.ref a0, .int i1, .int i2, .int i3] h (pZ Q) := by
  refine Ct.of (own := RX3) false (by decide +kernel) rfl (show (_ : Nat) ≤ _ from Nat.le_of_ble_eq_true rfl) (fun z => by cases z) (fun V C => ?_)
  show V h 0 0 0 [(0, .ref a0), (1, .int i1), (2, .int i2), (3, .int i3)] []
  unfold w_X3_runShelve at hw
  refine r_aload_n C rfl 0 rfl dX3_runShelve_0 ?_
  refine r_gfR (k := 2) C kX3 (by decide) (Or.inl q2157) (Or.inl rfl) dX3_runShelve_1 hw (fun v1 hw => ?_)
  refine r_iload_n C rfl 1 rfl dX3_runShelve_4 ?_
  obtain ⟨y2, rfl, hw_y2⟩ := hw
  have hw := hw_y2
  refine r_callS (rest := []) (As := [.ref y2, .int i1]) C sg_X3_hasSeal q2304 q2305 q90 q2306 rfl (Nat.le_of_ble_eq_true rfl) dX3_runShelve_5 rfl (Nat.le_refl _) (Nat.le_refl _) (c_X3_hasSeal G l y2 i1 h _ hw) (k_Z (fun r3 h4 hw => ?_))
  refine r_if_eq_b (tgt := 66) C (by decide) dX3_runShelve_8 (fun hc5 => ?_) (fun hc5 => ?_)
  · have hw := hw.1 hc5
    refine r_iconst (v := (0 : Int32)) C (by decide) dX3_runShelve_66 ?_
    exact r_zreturn (x := false) C dX3_runShelve_67 (Nat.le_refl _) (Nat.le_refl _) ⟨_, rfl, hw⟩
  · have hw := hw.2 hc5
    refine r_iload_n C rfl 2 rfl dX3_runShelve_11 ?_
    refine r_callS (rest := []) (As := [.int i2]) C sg_X3_isShelf q2460 q2461 q90 q2462 rfl (Nat.le_of_ble_eq_true rfl) dX3_runShelve_12 rfl (Nat.le_refl _) (Nat.le_refl _) (c_X3_isShelf G l i2 h4 _ hw) (k_Z (fun r6 h7 hw => ?_))
    refine r_if_eq_b (tgt := 66) C (by decide) dX3_runShelve_15 (fun hc8 => ?_) (fun hc8 => ?_)
    · have hw := hw.1 hc8
      refine r_iconst (v := (0 : Int32)) C (by decide) dX3_runShelve_66 ?_
      exact r_zreturn (x := false) C dX3_runShelve_67 (Nat.le_refl _) (Nat.le_refl _) ⟨_, rfl, hw⟩
    · have hw := hw.2 hc8
      refine r_iload_n C rfl 3 rfl dX3_runShelve_18 (r_i2l C dX3_runShelve_19 (r_lconst (v := (0 : Int64)) C (by decide) dX3_runShelve_20 (r_aload_n C rfl 0 rfl dX3_runShelve_21 ?_)))
      refine r_gfR (k := 2) C kX3 (by decide) (Or.inl q2157) (Or.inl rfl) dX3_runShelve_22 hw (fun v9 hw => ?_)
      refine r_iload_n C rfl 1 rfl dX3_runShelve_25 (r_iload_n C rfl 2 rfl dX3_runShelve_26 ?_)
      obtain ⟨y10, rfl, hw_y10⟩ := hw
      have hw := hw_y10
      refine r_callS (rest := [.long (0 : Int64), .long i3.toInt64]) (As := [.ref y10, .int i1, .int i2]) C sg_X3_others q2513 q2514 q90 q2515 rfl (Nat.le_of_ble_eq_true rfl) dX3_runShelve_27 rfl (Nat.le_refl _) (Nat.le_refl _) (c_X3_others G l y10 i1 i2 h7 _ hw) (k_I (fun r11 h12 hw => ?_))
      refine r_i2l C dX3_runShelve_30 ?_
      refine r_callS (rest := []) (As := [.long i3.toInt64, .long (0 : Int64), .long r11.toInt64]) C sg_X3_in q2219 q2220 q90 q2221 rfl (Nat.le_of_ble_eq_true rfl) dX3_runShelve_31 rfl (Nat.le_refl _) (Nat.le_refl _) (c_X3_in G l i3.toInt64 (0 : Int64) r11.toInt64 h12 _ hw) (k_Z (fun r13 h14 hw => ?_))
      refine r_if_eq_b (tgt := 66) C (by decide) dX3_runShelve_34 (fun hc15 => ?_) (fun hc15 => ?_)
      · have hw := hw.1 hc15
        refine r_iconst (v := (0 : Int32)) C (by decide) dX3_runShelve_66 ?_
        exact r_zreturn (x := false) C dX3_runShelve_67 (Nat.le_refl _) (Nat.le_refl _) ⟨_, rfl, hw⟩
      · have hw := hw.2 hc15
        refine r_aload_n C rfl 0 rfl dX3_runShelve_37 ?_
        refine r_gfR (k := 2) C kX3 (by decide) (Or.inl q2157) (Or.inl rfl) dX3_runShelve_38 hw (fun v16 hw => ?_)
        refine r_iload_n C rfl 1 rfl dX3_runShelve_41 (r_iload_n C rfl 2 rfl dX3_runShelve_42 ?_)
        obtain ⟨y17, rfl, hw_y17⟩ := hw
        have hw := hw_y17
        refine r_callS (rest := []) (As := [.ref y17, .int i1, .int i2]) C sg_X3_canShelve q2516 q2517 q90 q2518 rfl (Nat.le_of_ble_eq_true rfl) dX3_runShelve_43 rfl (Nat.le_refl _) (Nat.le_refl _) (c_X3_canShelve G l y17 i1 i2 h14 _ hw) (k_Z (fun r18 h19 hw => ?_))
        refine r_if_eq_b (tgt := 66) C (by decide) dX3_runShelve_46 (fun hc20 => ?_) (fun hc20 => ?_)
        · have hw := hw.1 hc20
          refine r_iconst (v := (0 : Int32)) C (by decide) dX3_runShelve_66 ?_
          exact r_zreturn (x := false) C dX3_runShelve_67 (Nat.le_refl _) (Nat.le_refl _) ⟨_, rfl, hw⟩
        · have hw := hw.2 hc20
          refine r_aload_n C rfl 0 rfl dX3_runShelve_49 ?_
          refine r_gfR (k := 2) C kX3 (by decide) (Or.inl q2157) (Or.inl rfl) dX3_runShelve_50 hw (fun v21 hw => ?_)
          refine r_iload_n C rfl 1 rfl dX3_runShelve_53 (r_iload_n C rfl 2 rfl dX3_runShelve_54 (r_iload_n C rfl 3 rfl dX3_runShelve_55 ?_))
          obtain ⟨y22, rfl, hw_y22⟩ := hw
          have hw := hw_y22
          refine r_callS (rest := []) (As := [.ref y22, .int i1, .int i2, .int i3]) C sg_X3_goShelve q2519 q2520 q90 q2521 rfl (Nat.le_of_ble_eq_true rfl) dX3_runShelve_56 rfl (Nat.le_refl _) (Nat.le_refl _) (c_X3_goShelve G l y22 i1 i2 i3 h19 _ hw) (k_I (fun r23 h24 hw => ?_))
          have hJ : V h24 0 0 67 [] [.int (bI (if r23 ≤ 0 then false else true))] := by
            exact r_zreturn (x := (if r23 ≤ 0 then false else true)) C dX3_runShelve_67 (Nat.le_refl _) (Nat.le_refl _) ⟨_, rfl, hw⟩
          refine r_if_le (tgt := 66) C (by decide) dX3_runShelve_59 (fun hc25 => ?_) (fun hc25 => ?_)
          · have hJ26 := hJ
            try simp only [if_pos hc25] at hJ26
            refine r_iconst (v := (0 : Int32)) C (by decide) dX3_runShelve_66 ?_
            exact r_sub C [] rfl hJ26
          · have hJ26 := hJ
            try simp only [if_neg hc25] at hJ26
            refine r_iconst (v := (1 : Int32)) C (by decide) dX3_runShelve_62 (r_goto (tgt := 67) C (by decide) dX3_runShelve_63 ?_)
            exact r_sub C [] rfl hJ26
def w_X3_runCut (a0 : Nat) (i1 : Int32) (h : Hp) (Q : Bool → Hp → Prop) : Prop :=
  gfR h a0 2 2 (fun v1 => nn v1 (fun y2 => w_X3_hasSeal y2 i1 h (fun r3 h4 => (r3 = false → Q false h4) ∧ (r3 = true → gfR h4 a0 2 2 (fun v6 => nn v6 (fun y7 => rdI h4 y7 ((225 : Int32) + i1) (fun v8 => (v8 = (-1 : Int32) → Q false h4) ∧ (¬ v8 = (-1 : Int32) → gfR h4 a0 2 2 (fun v10 => nn v10 (fun y11 => w_X3_goCut y11 i1 h4 (fun r12 h13 => Q (if r12 < 0 then false else true) h13)))))))))))
theorem sg_X3_runCut : ySg yX3_runCut 1 = true := by decide +kernel
theorem c_X3_runCut (G : gT) (l : Launch) (a0 : Nat) (i1 : Int32) (h : Hp) (Q : Bool → Hp → Prop) (hw : w_X3_runCut a0 i1 h Q) : Ct G l yX3_runCut (ws_ yX3_runCut cX3_runCut 2 (some .boolean)) 3 58 0 0 [.ref a0, .int i1] h (pZ Q) := by
  refine Ct.of (own := RX3) false (by decide +kernel) rfl (show (_ : Nat) ≤ _ from Nat.le_of_ble_eq_true rfl) (fun z => by cases z) (fun V C => ?_)
  show V h 0 0 0 [(0, .ref a0), (1, .int i1)] []
  unfold w_X3_runCut at hw
  refine r_aload_n C rfl 0 rfl dX3_runCut_0 ?_
  refine r_gfR (k := 2) C kX3 (by decide) (Or.inl q2157) (Or.inl rfl) dX3_runCut_1 hw (fun v1 hw => ?_)
  refine r_iload_n C rfl 1 rfl dX3_runCut_4 ?_
  obtain ⟨y2, rfl, hw_y2⟩ := hw
  have hw := hw_y2
  refine r_callS (rest := []) (As := [.ref y2, .int i1]) C sg_X3_hasSeal q2304 q2305 q90 q2306 rfl (Nat.le_of_ble_eq_true rfl) dX3_runCut_5 rfl (Nat.le_refl _) (Nat.le_refl _) (c_X3_hasSeal G l y2 i1 h _ hw) (k_Z (fun r3 h4 hw => ?_))
  refine r_if_eq_b (tgt := 40) C (by decide) dX3_runCut_8 (fun hc5 => ?_) (fun hc5 => ?_)
  · have hw := hw.1 hc5
    refine r_iconst (v := (0 : Int32)) C (by decide) dX3_runCut_40 ?_
    exact r_zreturn (x := false) C dX3_runCut_41 (Nat.le_refl _) (Nat.le_refl _) ⟨_, rfl, hw⟩
  · have hw := hw.2 hc5
    refine r_aload_n C rfl 0 rfl dX3_runCut_11 ?_
    refine r_gfR (k := 2) C kX3 (by decide) (Or.inl q2157) (Or.inl rfl) dX3_runCut_12 hw (fun v6 hw => ?_)
    refine r_sipush (v := (225 : Int32)) C (by decide) dX3_runCut_15 (r_iload_n C rfl 1 rfl dX3_runCut_18 (r_iadd C dX3_runCut_19 ?_))
    obtain ⟨y7, rfl, hw_y7⟩ := hw
    have hw := hw_y7
    refine r_iaload C dX3_runCut_20 hw (fun v8 hw => ?_)
    refine r_iconst (v := (-1 : Int32)) C (by decide) dX3_runCut_21 ?_
    refine r_icmp_eq (tgt := 40) C (by decide) dX3_runCut_22 (fun hc9 => ?_) (fun hc9 => ?_)
    · have hw := hw.1 hc9
      refine r_iconst (v := (0 : Int32)) C (by decide) dX3_runCut_40 ?_
      exact r_zreturn (x := false) C dX3_runCut_41 (Nat.le_refl _) (Nat.le_refl _) ⟨_, rfl, hw⟩
    · have hw := hw.2 hc9
      refine r_aload_n C rfl 0 rfl dX3_runCut_25 ?_
      refine r_gfR (k := 2) C kX3 (by decide) (Or.inl q2157) (Or.inl rfl) dX3_runCut_26 hw (fun v10 hw => ?_)
      refine r_iload_n C rfl 1 rfl dX3_runCut_29 ?_
      obtain ⟨y11, rfl, hw_y11⟩ := hw
      have hw := hw_y11
      refine r_callS (rest := []) (As := [.ref y11, .int i1]) C sg_X3_goCut q2506 q2507 q90 q2508 rfl (Nat.le_of_ble_eq_true rfl) dX3_runCut_30 rfl (Nat.le_refl _) (Nat.le_refl _) (c_X3_goCut G l y11 i1 h4 _ hw) (k_I (fun r12 h13 hw => ?_))
      have hJ : V h13 0 0 41 [] [.int (bI (if r12 < 0 then false else true))] := by
        exact r_zreturn (x := (if r12 < 0 then false else true)) C dX3_runCut_41 (Nat.le_refl _) (Nat.le_refl _) ⟨_, rfl, hw⟩
      refine r_if_lt (tgt := 40) C (by decide) dX3_runCut_33 (fun hc14 => ?_) (fun hc14 => ?_)
      · have hJ15 := hJ
        try simp only [if_pos hc14] at hJ15
        refine r_iconst (v := (0 : Int32)) C (by decide) dX3_runCut_40 ?_
        exact r_sub C [] rfl hJ15
      · have hJ15 := hJ
        try simp only [if_neg hc14] at hJ15
        refine r_iconst (v := (1 : Int32)) C (by decide) dX3_runCut_36 (r_goto (tgt := 41) C (by decide) dX3_runCut_37 ?_)
        exact r_sub C [] rfl hJ15
def w_X3_runHang (a0 : Nat) (i1 : Int32) (i2 : Int32) (h : Hp) (Q : Bool → Hp → Prop) : Prop :=
  gfR h a0 2 2 (fun v1 => nn v1 (fun y2 => w_X3_hasSeal y2 i1 h (fun r3 h4 => (r3 = false → Q false h4) ∧ (r3 = true → w_X3_isCharter i2 h4 (fun r6 h7 => (r6 = false → Q false h7) ∧ (r6 = true → gfR h7 a0 2 2 (fun v9 => nn v9 (fun y10 => w_X3_goHang y10 i1 i2 h7 (fun r11 h12 => Q (if r11 ≤ 0 then false else true) h12)))))))))
theorem sg_X3_runHang : ySg yX3_runHang 2 = true := by decide +kernel
theorem c_X3_runHang (G : gT) (l : Launch) (a0 : Nat) (i1 : Int32) (i2 : Int32) (h : Hp) (Q : Bool → Hp → Prop) (hw : w_X3_runHang a0 i1 i2 h Q) : Ct G l yX3_runHang (ws_ yX3_runHang cX3_runHang 3 (some .boolean)) 3 58 0 0 [.ref a0, .int i1, .int i2] h (pZ Q) := by
  refine Ct.of (own := RX3) false (by decide +kernel) rfl (show (_ : Nat) ≤ _ from Nat.le_of_ble_eq_true rfl) (fun z => by cases z) (fun V C => ?_)
  show V h 0 0 0 [(0, .ref a0), (1, .int i1), (2, .int i2)] []
  unfold w_X3_runHang at hw
  refine r_aload_n C rfl 0 rfl dX3_runHang_0 ?_
  refine r_gfR (k := 2) C kX3 (by decide) (Or.inl q2157) (Or.inl rfl) dX3_runHang_1 hw (fun v1 hw => ?_)
  refine r_iload_n C rfl 1 rfl dX3_runHang_4 ?_
  obtain ⟨y2, rfl, hw_y2⟩ := hw
  have hw := hw_y2
  refine r_callS (rest := []) (As := [.ref y2, .int i1]) C sg_X3_hasSeal q2304 q2305 q90 q2306 rfl (Nat.le_of_ble_eq_true rfl) dX3_runHang_5 rfl (Nat.le_refl _) (Nat.le_refl _) (c_X3_hasSeal G l y2 i1 h _ hw) (k_Z (fun r3 h4 hw => ?_))
  refine r_if_eq_b (tgt := 34) C (by decide) dX3_runHang_8 (fun hc5 => ?_) (fun hc5 => ?_)
  · have hw := hw.1 hc5
    refine r_iconst (v := (0 : Int32)) C (by decide) dX3_runHang_34 ?_
    exact r_zreturn (x := false) C dX3_runHang_35 (Nat.le_refl _) (Nat.le_refl _) ⟨_, rfl, hw⟩
  · have hw := hw.2 hc5
    refine r_iload_n C rfl 2 rfl dX3_runHang_11 ?_
    refine r_callS (rest := []) (As := [.int i2]) C sg_X3_isCharter q2452 q2453 q90 q2454 rfl (Nat.le_of_ble_eq_true rfl) dX3_runHang_12 rfl (Nat.le_refl _) (Nat.le_refl _) (c_X3_isCharter G l i2 h4 _ hw) (k_Z (fun r6 h7 hw => ?_))
    refine r_if_eq_b (tgt := 34) C (by decide) dX3_runHang_15 (fun hc8 => ?_) (fun hc8 => ?_)
    · have hw := hw.1 hc8
      refine r_iconst (v := (0 : Int32)) C (by decide) dX3_runHang_34 ?_
      exact r_zreturn (x := false) C dX3_runHang_35 (Nat.le_refl _) (Nat.le_refl _) ⟨_, rfl, hw⟩
    · have hw := hw.2 hc8
      refine r_aload_n C rfl 0 rfl dX3_runHang_18 ?_
      refine r_gfR (k := 2) C kX3 (by decide) (Or.inl q2157) (Or.inl rfl) dX3_runHang_19 hw (fun v9 hw => ?_)
      refine r_iload_n C rfl 1 rfl dX3_runHang_22 (r_iload_n C rfl 2 rfl dX3_runHang_23 ?_)
      obtain ⟨y10, rfl, hw_y10⟩ := hw
      have hw := hw_y10
      refine r_callS (rest := []) (As := [.ref y10, .int i1, .int i2]) C sg_X3_goHang q2307 q2308 q90 q2309 rfl (Nat.le_of_ble_eq_true rfl) dX3_runHang_24 rfl (Nat.le_refl _) (Nat.le_refl _) (c_X3_goHang G l y10 i1 i2 h7 _ hw) (k_I (fun r11 h12 hw => ?_))
      have hJ : V h12 0 0 35 [] [.int (bI (if r11 ≤ 0 then false else true))] := by
        exact r_zreturn (x := (if r11 ≤ 0 then false else true)) C dX3_runHang_35 (Nat.le_refl _) (Nat.le_refl _) ⟨_, rfl, hw⟩
      refine r_if_le (tgt := 34) C (by decide) dX3_runHang_27 (fun hc13 => ?_) (fun hc13 => ?_)
      · have hJ14 := hJ
        try simp only [if_pos hc13] at hJ14
        refine r_iconst (v := (0 : Int32)) C (by decide) dX3_runHang_34 ?_
        exact r_sub C [] rfl hJ14
      · have hJ14 := hJ
        try simp only [if_neg hc13] at hJ14
        refine r_iconst (v := (1 : Int32)) C (by decide) dX3_runHang_30 (r_goto (tgt := 35) C (by decide) dX3_runHang_31 ?_)
        exact r_sub C [] rfl hJ14
def w_X3_runCrack (a0 : Nat) (i1 : Int32) (i2 : Int32) (h : Hp) (Q : Bool → Hp → Prop) : Prop :=
  gfR h a0 2 2 (fun v1 => nn v1 (fun y2 => w_X3_hasDie y2 i1 h (fun r3 h4 => (r3 = false → Q false h4) ∧ (r3 = true → w_X3_isYear i2 h4 (fun r6 h7 => (r6 = false → Q false h7) ∧ (r6 = true → gfR h7 a0 2 2 (fun v9 => nn v9 (fun y10 => w_X3_canCrack y10 i1 i2 h7 (fun r11 h12 => (r11 = false → Q false h12) ∧ (r11 = true → gfR h12 a0 2 2 (fun v14 => nn v14 (fun y15 => w_X3_goCrack y15 i1 i2 h12 (fun r16 h17 => Q (if r16 < 0 then false else true) h17)))))))))))))
theorem sg_X3_runCrack : ySg yX3_runCrack 2 = true := by decide +kernel
theorem c_X3_runCrack (G : gT) (l : Launch) (a0 : Nat) (i1 : Int32) (i2 : Int32) (h : Hp) (Q : Bool → Hp → Prop) (hw : w_X3_runCrack a0 i1 i2 h Q) : Ct G l yX3_runCrack (ws_ yX3_runCrack cX3_runCrack 3 (some .boolean)) 3 58 0 0 [.ref a0, .int i1, .int i2] h (pZ Q) := by
  refine Ct.of (own := RX3) false (by decide +kernel) rfl (show (_ : Nat) ≤ _ from Nat.le_of_ble_eq_true rfl) (fun z => by cases z) (fun V C => ?_)
  show V h 0 0 0 [(0, .ref a0), (1, .int i1), (2, .int i2)] []
  unfold w_X3_runCrack at hw
  refine r_aload_n C rfl 0 rfl dX3_runCrack_0 ?_
  refine r_gfR (k := 2) C kX3 (by decide) (Or.inl q2157) (Or.inl rfl) dX3_runCrack_1 hw (fun v1 hw => ?_)
  refine r_iload_n C rfl 1 rfl dX3_runCrack_4 ?_
  obtain ⟨y2, rfl, hw_y2⟩ := hw
  have hw := hw_y2
  refine r_callS (rest := []) (As := [.ref y2, .int i1]) C sg_X3_hasDie q2291 q2292 q90 q2293 rfl (Nat.le_of_ble_eq_true rfl) dX3_runCrack_5 rfl (Nat.le_refl _) (Nat.le_refl _) (c_X3_hasDie G l y2 i1 h _ hw) (k_Z (fun r3 h4 hw => ?_))
  refine r_if_eq_b (tgt := 46) C (by decide) dX3_runCrack_8 (fun hc5 => ?_) (fun hc5 => ?_)
  · have hw := hw.1 hc5
    refine r_iconst (v := (0 : Int32)) C (by decide) dX3_runCrack_46 ?_
    exact r_zreturn (x := false) C dX3_runCrack_47 (Nat.le_refl _) (Nat.le_refl _) ⟨_, rfl, hw⟩
  · have hw := hw.2 hc5
    refine r_iload_n C rfl 2 rfl dX3_runCrack_11 ?_
    refine r_callS (rest := []) (As := [.int i2]) C sg_X3_isYear q2439 q2440 q90 q2441 rfl (Nat.le_of_ble_eq_true rfl) dX3_runCrack_12 rfl (Nat.le_refl _) (Nat.le_refl _) (c_X3_isYear G l i2 h4 _ hw) (k_Z (fun r6 h7 hw => ?_))
    refine r_if_eq_b (tgt := 46) C (by decide) dX3_runCrack_15 (fun hc8 => ?_) (fun hc8 => ?_)
    · have hw := hw.1 hc8
      refine r_iconst (v := (0 : Int32)) C (by decide) dX3_runCrack_46 ?_
      exact r_zreturn (x := false) C dX3_runCrack_47 (Nat.le_refl _) (Nat.le_refl _) ⟨_, rfl, hw⟩
    · have hw := hw.2 hc8
      refine r_aload_n C rfl 0 rfl dX3_runCrack_18 ?_
      refine r_gfR (k := 2) C kX3 (by decide) (Or.inl q2157) (Or.inl rfl) dX3_runCrack_19 hw (fun v9 hw => ?_)
      refine r_iload_n C rfl 1 rfl dX3_runCrack_22 (r_iload_n C rfl 2 rfl dX3_runCrack_23 ?_)
      obtain ⟨y10, rfl, hw_y10⟩ := hw
      have hw := hw_y10
      refine r_callS (rest := []) (As := [.ref y10, .int i1, .int i2]) C sg_X3_canCrack q2294 q2295 q90 q2296 rfl (Nat.le_of_ble_eq_true rfl) dX3_runCrack_24 rfl (Nat.le_refl _) (Nat.le_refl _) (c_X3_canCrack G l y10 i1 i2 h7 _ hw) (k_Z (fun r11 h12 hw => ?_))
      refine r_if_eq_b (tgt := 46) C (by decide) dX3_runCrack_27 (fun hc13 => ?_) (fun hc13 => ?_)
      · have hw := hw.1 hc13
        refine r_iconst (v := (0 : Int32)) C (by decide) dX3_runCrack_46 ?_
        exact r_zreturn (x := false) C dX3_runCrack_47 (Nat.le_refl _) (Nat.le_refl _) ⟨_, rfl, hw⟩
      · have hw := hw.2 hc13
        refine r_aload_n C rfl 0 rfl dX3_runCrack_30 ?_
        refine r_gfR (k := 2) C kX3 (by decide) (Or.inl q2157) (Or.inl rfl) dX3_runCrack_31 hw (fun v14 hw => ?_)
        refine r_iload_n C rfl 1 rfl dX3_runCrack_34 (r_iload_n C rfl 2 rfl dX3_runCrack_35 ?_)
        obtain ⟨y15, rfl, hw_y15⟩ := hw
        have hw := hw_y15
        refine r_callS (rest := []) (As := [.ref y15, .int i1, .int i2]) C sg_X3_goCrack q2297 q2298 q90 q2299 rfl (Nat.le_of_ble_eq_true rfl) dX3_runCrack_36 rfl (Nat.le_refl _) (Nat.le_refl _) (c_X3_goCrack G l y15 i1 i2 h12 _ hw) (k_I (fun r16 h17 hw => ?_))
        have hJ : V h17 0 0 47 [] [.int (bI (if r16 < 0 then false else true))] := by
          exact r_zreturn (x := (if r16 < 0 then false else true)) C dX3_runCrack_47 (Nat.le_refl _) (Nat.le_refl _) ⟨_, rfl, hw⟩
        refine r_if_lt (tgt := 46) C (by decide) dX3_runCrack_39 (fun hc18 => ?_) (fun hc18 => ?_)
        · have hJ19 := hJ
          try simp only [if_pos hc18] at hJ19
          refine r_iconst (v := (0 : Int32)) C (by decide) dX3_runCrack_46 ?_
          exact r_sub C [] rfl hJ19
        · have hJ19 := hJ
          try simp only [if_neg hc18] at hJ19
          refine r_iconst (v := (1 : Int32)) C (by decide) dX3_runCrack_42 (r_goto (tgt := 47) C (by decide) dX3_runCrack_43 ?_)
          exact r_sub C [] rfl hJ19
def w_X3_command (a0 : Nat) (i1 : Int32) (h : Hp) (Q : Bool → Hp → Prop) : Prop :=
  ((i1 / (100000 : Int32)).toInt < 1 ∨ 9 < (i1 / (100000 : Int32)).toInt → Q false h) ∧ ((i1 / (100000 : Int32)) = (1 : Int32) → hasC h a0 2 ∧ (w_X3_runCrack a0 ((i1 / (10000 : Int32)) - (i1 / (10000 : Int32)) / (10 : Int32) * (10 : Int32)) (i1 - i1 / (10000 : Int32) * (10000 : Int32)) h (fun r2 h3 => Q r2 h3))) ∧ ((i1 / (100000 : Int32)) = (2 : Int32) → (¬ (i1 - i1 / (100 : Int32) * (100 : Int32)) = 0 → Q false h) ∧ ((i1 - i1 / (100 : Int32) * (100 : Int32)) = 0 → hasC h a0 2 ∧ (w_X3_runHang a0 ((i1 / (1000 : Int32)) - (i1 / (1000 : Int32)) / (100 : Int32) * (100 : Int32)) ((i1 / (100 : Int32)) - (i1 / (100 : Int32)) / (10 : Int32) * (10 : Int32)) h (fun r6 h7 => Q (if r6 = false then false else true) h7)))) ∧ ((i1 / (100000 : Int32)) = (3 : Int32) → (¬ (i1 - i1 / (1000 : Int32) * (1000 : Int32)) = 0 → Q false h) ∧ ((i1 - i1 / (1000 : Int32) * (1000 : Int32)) = 0 → hasC h a0 2 ∧ (w_X3_runCut a0 ((i1 / (1000 : Int32)) - (i1 / (1000 : Int32)) / (100 : Int32) * (100 : Int32)) h (fun r12 h13 => Q (if r12 = false then false else true) h13)))) ∧ ((i1 / (100000 : Int32)) = (4 : Int32) → (¬ (i1 - i1 / (10 : Int32) * (10 : Int32)) = 0 → Q false h) ∧ ((i1 - i1 / (10 : Int32) * (10 : Int32)) = 0 → hasC h a0 2 ∧ (w_X3_runShelve a0 ((i1 / (1000 : Int32)) - (i1 / (1000 : Int32)) / (100 : Int32) * (100 : Int32)) ((i1 / (100 : Int32)) - (i1 / (100 : Int32)) / (10 : Int32) * (10 : Int32)) ((i1 - i1 / (100 : Int32) * (100 : Int32)) / (10 : Int32)) h (fun r18 h19 => Q (if r18 = false then false else true) h19)))) ∧ ((i1 / (100000 : Int32)) = (5 : Int32) → (¬ (i1 - i1 / (10 : Int32) * (10 : Int32)) = 0 → Q false h) ∧ ((i1 - i1 / (10 : Int32) * (10 : Int32)) = 0 → hasC h a0 2 ∧ (w_X3_runShow a0 ((i1 / (1000 : Int32)) - (i1 / (1000 : Int32)) / (100 : Int32) * (100 : Int32)) ((i1 / (10 : Int32)) - (i1 / (10 : Int32)) / (100 : Int32) * (100 : Int32)) h (fun r24 h25 => Q (if r24 = false then false else true) h25)))) ∧ ((i1 / (100000 : Int32)) = (6 : Int32) → (¬ (i1 - i1 / (10000 : Int32) * (10000 : Int32)) = 0 → Q false h) ∧ ((i1 - i1 / (10000 : Int32) * (10000 : Int32)) = 0 → hasC h a0 2 ∧ (w_X3_runSort a0 ((i1 / (10000 : Int32)) - (i1 / (10000 : Int32)) / (10 : Int32) * (10 : Int32)) h (fun r30 h31 => Q (if r30 = false then false else true) h31)))) ∧ ((i1 / (100000 : Int32)) = (7 : Int32) → (¬ (i1 - i1 / (100 : Int32) * (100 : Int32)) = 0 → Q false h) ∧ ((i1 - i1 / (100 : Int32) * (100 : Int32)) = 0 → hasC h a0 2 ∧ (w_X3_runSet a0 ((i1 / (10000 : Int32)) - (i1 / (10000 : Int32)) / (10 : Int32) * (10 : Int32)) ((i1 / (100 : Int32)) - (i1 / (100 : Int32)) / (100 : Int32) * (100 : Int32)) h (fun r36 h37 => Q (if r36 = false then false else true) h37)))) ∧ ((i1 / (100000 : Int32)) = (8 : Int32) → ((100 : Int32) ≤ (i1 - i1 / (100000 : Int32) * (100000 : Int32)) → Q false h) ∧ (¬ (100 : Int32) ≤ (i1 - i1 / (100000 : Int32) * (100000 : Int32)) → gfR h a0 2 2 (fun v41 => nn v41 (fun y42 => hasC h a0 2 ∧ (w_X3_fakes a0 y42 h (fun r44 h45 => Q (if (i1 - i1 / (100 : Int32) * (100 : Int32)) < r44 then false else true) h45)))))) ∧ ((i1 / (100000 : Int32)) = (9 : Int32) → ((10 : Int32) ≤ (i1 - i1 / (1000 : Int32) * (1000 : Int32)) → Q false h) ∧ (¬ (10 : Int32) ≤ (i1 - i1 / (1000 : Int32) * (1000 : Int32)) → gfR h a0 2 2 (fun v49 => nn v49 (fun y50 => w_X3_hasSeal y50 ((i1 / (1000 : Int32)) - (i1 / (1000 : Int32)) / (100 : Int32) * (100 : Int32)) h (fun r51 h52 => (r51 = false → Q false h52) ∧ (r51 = true → gfR h52 a0 2 2 (fun v54 => nn v54 (fun y55 => hasC h52 a0 2 ∧ (w_X3_fake a0 y55 ((i1 / (1000 : Int32)) - (i1 / (1000 : Int32)) / (100 : Int32) * (100 : Int32)) h52 (fun r57 h58 => Q (if ¬ r57 = (i1 - i1 / (10 : Int32) * (10 : Int32)) then false else true) h58))))))))))
theorem sg_X3_command : ySg yX3_command 1 = true := by decide +kernel
theorem c_X3_command (G : gT) (l : Launch) (a0 : Nat) (i1 : Int32) (h : Hp) (Q : Bool → Hp → Prop) (hw : w_X3_command a0 i1 h Q) : Ct G l yX3_command (ws_ yX3_command cX3_command 7 (some .boolean)) 11 250 0 0 [.ref a0, .int i1] h (pZ Q) := by
  refine Ct.of (own := RX3) false (by decide +kernel) rfl (show (_ : Nat) ≤ _ from Nat.le_of_ble_eq_true rfl) (fun z => by cases z) (fun V C => ?_)
  show V h 0 0 0 [(0, .ref a0), (1, .int i1)] []
  unfold w_X3_command at hw
  refine r_iload_n C rfl 1 rfl dX3_command_0 (r_sipush (v := (10000 : Int32)) C (by decide) dX3_command_1 (r_idiv C (by decide) dX3_command_4 (r_bipush (v := (10 : Int32)) C (by decide) dX3_command_5 (r_irem C (by decide) dX3_command_7 (r_istore_n (L' := [(2, .int ((i1 / (10000 : Int32)) - (i1 / (10000 : Int32)) / (10 : Int32) * (10 : Int32))), (0, .ref a0), (1, .int i1)]) C rfl (by decide) rfl dX3_command_8 ?_)))))
  refine r_iload_n C rfl 2 rfl dX3_command_9 (r_sipush (v := (1000 : Int32)) C (by decide) dX3_command_10 (r_idiv C (by decide) dX3_command_13 (r_bipush (v := (100 : Int32)) C (by decide) dX3_command_14 (r_irem C (by decide) dX3_command_16 (r_istore_n (L' := [(3, .int ((i1 / (1000 : Int32)) - (i1 / (1000 : Int32)) / (100 : Int32) * (100 : Int32))), (2, .int ((i1 / (10000 : Int32)) - (i1 / (10000 : Int32)) / (10 : Int32) * (10 : Int32))), (0, .ref a0), (1, .int i1)]) C rfl (by decide) rfl dX3_command_17 ?_)))))
  refine r_iload_n C rfl 3 rfl dX3_command_18 (r_bipush (v := (100 : Int32)) C (by decide) dX3_command_19 (r_idiv C (by decide) dX3_command_21 (r_bipush (v := (10 : Int32)) C (by decide) dX3_command_22 (r_irem C (by decide) dX3_command_24 (r_istore (L' := [(4, .int ((i1 / (100 : Int32)) - (i1 / (100 : Int32)) / (10 : Int32) * (10 : Int32))), (3, .int ((i1 / (1000 : Int32)) - (i1 / (1000 : Int32)) / (100 : Int32) * (100 : Int32))), (2, .int ((i1 / (10000 : Int32)) - (i1 / (10000 : Int32)) / (10 : Int32) * (10 : Int32))), (0, .ref a0), (1, .int i1)]) C (by decide) rfl dX3_command_25 ?_)))))
  refine r_iload_n C rfl 4 rfl dX3_command_27 (r_bipush (v := (100 : Int32)) C (by decide) dX3_command_28 (r_irem C (by decide) dX3_command_30 (r_istore (L' := [(5, .int (i1 - i1 / (100 : Int32) * (100 : Int32))), (4, .int ((i1 / (100 : Int32)) - (i1 / (100 : Int32)) / (10 : Int32) * (10 : Int32))), (3, .int ((i1 / (1000 : Int32)) - (i1 / (1000 : Int32)) / (100 : Int32) * (100 : Int32))), (2, .int ((i1 / (10000 : Int32)) - (i1 / (10000 : Int32)) / (10 : Int32) * (10 : Int32))), (0, .ref a0), (1, .int i1)]) C (by decide) rfl dX3_command_31 (r_iload_n C rfl 5 rfl dX3_command_33 (r_bipush (v := (10 : Int32)) C (by decide) dX3_command_34 ?_)))))
  refine r_irem C (by decide) dX3_command_36 (r_istore (L' := [(6, .int (i1 - i1 / (10 : Int32) * (10 : Int32))), (5, .int (i1 - i1 / (100 : Int32) * (100 : Int32))), (4, .int ((i1 / (100 : Int32)) - (i1 / (100 : Int32)) / (10 : Int32) * (10 : Int32))), (3, .int ((i1 / (1000 : Int32)) - (i1 / (1000 : Int32)) / (100 : Int32) * (100 : Int32))), (2, .int ((i1 / (10000 : Int32)) - (i1 / (10000 : Int32)) / (10 : Int32) * (10 : Int32))), (0, .ref a0), (1, .int i1)]) C (by decide) rfl dX3_command_37 (r_iload_n C rfl 6 rfl dX3_command_39 (r_ldc_w (v := (100000 : Int32)) C q2589 dX3_command_40 (r_idiv C (by decide) dX3_command_43 ?_))))
  by_cases hd61 : (i1 / (100000 : Int32)).toInt < 1 ∨ 9 < (i1 / (100000 : Int32)).toInt
  · have hw := hw.1 hd61
    refine r_tableOut (tgt := 320) C hd61 (by decide) dX3_command_44 ?_
    refine r_iconst (v := (0 : Int32)) C (by decide) dX3_command_320 ?_
    exact r_zreturn (x := false) C dX3_command_321 (Nat.le_refl _) (Nat.le_refl _) ⟨_, rfl, hw⟩
  · obtain ⟨k9, hk9, e9⟩ := tb_k 9 (by decide) hd61
    match k9, hk9, e9 with
    | 0, _, e9 =>
      have e9 : i1 / (100000 : Int32) = (1 : Int32) := e9.trans (by decide)
      have hw := hw.2.1 e9
      refine r_tableAt (k := (1 : Int32)) (off := 52) (tgt := 96) C e9 (by decide) (by decide) (by decide) (by decide) dX3_command_44 ?_
      refine r_aload_n C rfl 5 rfl dX3_command_96 (r_iload_n C rfl 4 rfl dX3_command_97 (r_iload_n C rfl 6 rfl dX3_command_98 (r_sipush (v := (10000 : Int32)) C (by decide) dX3_command_99 (r_irem C (by decide) dX3_command_102 ?_))))
      obtain ⟨hq1, hw⟩ := hw
      refine r_callV (ci := 2) (rest := []) (As := [.int ((i1 / (10000 : Int32)) - (i1 / (10000 : Int32)) / (10 : Int32) * (10 : Int32)), .int (i1 - i1 / (10000 : Int32) * (10000 : Int32))]) C sg_X3_runCrack rfl rfl q2590 q2592 qs68 q90 q2593 rfl (Nat.le_of_ble_eq_true rfl) dX3_command_103 rfl hq1 (Nat.le_refl _) (Nat.le_refl _) (c_X3_runCrack G l a0 ((i1 / (10000 : Int32)) - (i1 / (10000 : Int32)) / (10 : Int32) * (10 : Int32)) (i1 - i1 / (10000 : Int32) * (10000 : Int32)) h _ hw) (k_Z (fun r2 h3 hw => ?_))
      exact r_zreturn (x := r2) C dX3_command_106 (Nat.le_refl _) (Nat.le_refl _) ⟨_, rfl, hw⟩
    | 1, _, e9 =>
      have e9 : i1 / (100000 : Int32) = (2 : Int32) := e9.trans (by decide)
      have hw := hw.2.2.1 e9
      refine r_tableAt (k := (2 : Int32)) (off := 63) (tgt := 107) C e9 (by decide) (by decide) (by decide) (by decide) dX3_command_44 ?_
      refine r_iload C 1 rfl dX3_command_107 ?_
      refine r_if_ne (tgt := 126) C (by decide) dX3_command_109 (fun hc4 => ?_) (fun hc4 => ?_)
      · have hw := hw.1 hc4
        refine r_iconst (v := (0 : Int32)) C (by decide) dX3_command_126 ?_
        exact r_zreturn (x := false) C dX3_command_127 (Nat.le_refl _) (Nat.le_refl _) ⟨_, rfl, hw⟩
      · have hw := hw.2 hc4
        refine r_aload_n C rfl 5 rfl dX3_command_112 (r_iload_n C rfl 3 rfl dX3_command_113 (r_iload C 2 rfl dX3_command_114 ?_))
        obtain ⟨hq5, hw⟩ := hw
        refine r_callV (ci := 2) (rest := []) (As := [.int ((i1 / (1000 : Int32)) - (i1 / (1000 : Int32)) / (100 : Int32) * (100 : Int32)), .int ((i1 / (100 : Int32)) - (i1 / (100 : Int32)) / (10 : Int32) * (10 : Int32))]) C sg_X3_runHang rfl rfl q2594 q2596 qs69 q90 q2597 rfl (Nat.le_of_ble_eq_true rfl) dX3_command_116 rfl hq5 (Nat.le_refl _) (Nat.le_refl _) (c_X3_runHang G l a0 ((i1 / (1000 : Int32)) - (i1 / (1000 : Int32)) / (100 : Int32) * (100 : Int32)) ((i1 / (100 : Int32)) - (i1 / (100 : Int32)) / (10 : Int32) * (10 : Int32)) h _ hw) (k_Z (fun r6 h7 hw => ?_))
        have hJ : V h7 0 0 127 [] [.int (bI (if r6 = false then false else true))] := by
          exact r_zreturn (x := (if r6 = false then false else true)) C dX3_command_127 (Nat.le_refl _) (Nat.le_refl _) ⟨_, rfl, hw⟩
        refine r_if_eq_b (tgt := 126) C (by decide) dX3_command_119 (fun hc8 => ?_) (fun hc8 => ?_)
        · have hJ9 := hJ
          try simp only [if_pos hc8] at hJ9
          refine r_iconst (v := (0 : Int32)) C (by decide) dX3_command_126 ?_
          exact r_sub C [] rfl hJ9
        · have hJ9 := hJ
          try simp only [if_neg (show ¬ r6 = false from by rw [hc8]; decide)] at hJ9
          refine r_iconst (v := (1 : Int32)) C (by decide) dX3_command_122 (r_goto (tgt := 127) C (by decide) dX3_command_123 ?_)
          exact r_sub C [] rfl hJ9
    | 2, _, e9 =>
      have e9 : i1 / (100000 : Int32) = (3 : Int32) := e9.trans (by decide)
      have hw := hw.2.2.2.1 e9
      refine r_tableAt (k := (3 : Int32)) (off := 84) (tgt := 128) C e9 (by decide) (by decide) (by decide) (by decide) dX3_command_44 ?_
      refine r_iload_n C rfl 6 rfl dX3_command_128 (r_sipush (v := (1000 : Int32)) C (by decide) dX3_command_129 (r_irem C (by decide) dX3_command_132 ?_))
      refine r_if_ne (tgt := 148) C (by decide) dX3_command_133 (fun hc10 => ?_) (fun hc10 => ?_)
      · have hw := hw.1 hc10
        refine r_iconst (v := (0 : Int32)) C (by decide) dX3_command_148 ?_
        exact r_zreturn (x := false) C dX3_command_149 (Nat.le_refl _) (Nat.le_refl _) ⟨_, rfl, hw⟩
      · have hw := hw.2 hc10
        refine r_aload_n C rfl 5 rfl dX3_command_136 (r_iload_n C rfl 3 rfl dX3_command_137 ?_)
        obtain ⟨hq11, hw⟩ := hw
        refine r_callV (ci := 2) (rest := []) (As := [.int ((i1 / (1000 : Int32)) - (i1 / (1000 : Int32)) / (100 : Int32) * (100 : Int32))]) C sg_X3_runCut rfl rfl q2598 q2600 qs70 q90 q2601 rfl (Nat.le_of_ble_eq_true rfl) dX3_command_138 rfl hq11 (Nat.le_refl _) (Nat.le_refl _) (c_X3_runCut G l a0 ((i1 / (1000 : Int32)) - (i1 / (1000 : Int32)) / (100 : Int32) * (100 : Int32)) h _ hw) (k_Z (fun r12 h13 hw => ?_))
        have hJ : V h13 0 0 149 [] [.int (bI (if r12 = false then false else true))] := by
          exact r_zreturn (x := (if r12 = false then false else true)) C dX3_command_149 (Nat.le_refl _) (Nat.le_refl _) ⟨_, rfl, hw⟩
        refine r_if_eq_b (tgt := 148) C (by decide) dX3_command_141 (fun hc14 => ?_) (fun hc14 => ?_)
        · have hJ15 := hJ
          try simp only [if_pos hc14] at hJ15
          refine r_iconst (v := (0 : Int32)) C (by decide) dX3_command_148 ?_
          exact r_sub C [] rfl hJ15
        · have hJ15 := hJ
          try simp only [if_neg (show ¬ r12 = false from by rw [hc14]; decide)] at hJ15
          refine r_iconst (v := (1 : Int32)) C (by decide) dX3_command_144 (r_goto (tgt := 149) C (by decide) dX3_command_145 ?_)
          exact r_sub C [] rfl hJ15
    | 3, _, e9 =>
      have e9 : i1 / (100000 : Int32) = (4 : Int32) := e9.trans (by decide)
      have hw := hw.2.2.2.2.1 e9
      refine r_tableAt (k := (4 : Int32)) (off := 106) (tgt := 150) C e9 (by decide) (by decide) (by decide) (by decide) dX3_command_44 ?_
      refine r_iload C 0 rfl dX3_command_150 ?_
      refine r_if_ne (tgt := 174) C (by decide) dX3_command_152 (fun hc16 => ?_) (fun hc16 => ?_)
      · have hw := hw.1 hc16
        refine r_iconst (v := (0 : Int32)) C (by decide) dX3_command_174 ?_
        exact r_zreturn (x := false) C dX3_command_175 (Nat.le_refl _) (Nat.le_refl _) ⟨_, rfl, hw⟩
      · have hw := hw.2 hc16
        refine r_aload_n C rfl 5 rfl dX3_command_155 (r_iload_n C rfl 3 rfl dX3_command_156 (r_iload C 2 rfl dX3_command_157 (r_iload C 1 rfl dX3_command_159 (r_bipush (v := (10 : Int32)) C (by decide) dX3_command_161 (r_idiv C (by decide) dX3_command_163 ?_)))))
        obtain ⟨hq17, hw⟩ := hw
        refine r_callV (ci := 2) (rest := []) (As := [.int ((i1 / (1000 : Int32)) - (i1 / (1000 : Int32)) / (100 : Int32) * (100 : Int32)), .int ((i1 / (100 : Int32)) - (i1 / (100 : Int32)) / (10 : Int32) * (10 : Int32)), .int ((i1 - i1 / (100 : Int32) * (100 : Int32)) / (10 : Int32))]) C sg_X3_runShelve rfl rfl q2602 q2604 qs71 q90 q2605 rfl (Nat.le_of_ble_eq_true rfl) dX3_command_164 rfl hq17 (Nat.le_refl _) (Nat.le_refl _) (c_X3_runShelve G l a0 ((i1 / (1000 : Int32)) - (i1 / (1000 : Int32)) / (100 : Int32) * (100 : Int32)) ((i1 / (100 : Int32)) - (i1 / (100 : Int32)) / (10 : Int32) * (10 : Int32)) ((i1 - i1 / (100 : Int32) * (100 : Int32)) / (10 : Int32)) h _ hw) (k_Z (fun r18 h19 hw => ?_))
        have hJ : V h19 0 0 175 [] [.int (bI (if r18 = false then false else true))] := by
          exact r_zreturn (x := (if r18 = false then false else true)) C dX3_command_175 (Nat.le_refl _) (Nat.le_refl _) ⟨_, rfl, hw⟩
        refine r_if_eq_b (tgt := 174) C (by decide) dX3_command_167 (fun hc20 => ?_) (fun hc20 => ?_)
        · have hJ21 := hJ
          try simp only [if_pos hc20] at hJ21
          refine r_iconst (v := (0 : Int32)) C (by decide) dX3_command_174 ?_
          exact r_sub C [] rfl hJ21
        · have hJ21 := hJ
          try simp only [if_neg (show ¬ r18 = false from by rw [hc20]; decide)] at hJ21
          refine r_iconst (v := (1 : Int32)) C (by decide) dX3_command_170 (r_goto (tgt := 175) C (by decide) dX3_command_171 ?_)
          exact r_sub C [] rfl hJ21
    | 4, _, e9 =>
      have e9 : i1 / (100000 : Int32) = (5 : Int32) := e9.trans (by decide)
      have hw := hw.2.2.2.2.2.1 e9
      refine r_tableAt (k := (5 : Int32)) (off := 132) (tgt := 176) C e9 (by decide) (by decide) (by decide) (by decide) dX3_command_44 ?_
      refine r_iload C 0 rfl dX3_command_176 ?_
      refine r_if_ne (tgt := 200) C (by decide) dX3_command_178 (fun hc22 => ?_) (fun hc22 => ?_)
      · have hw := hw.1 hc22
        refine r_iconst (v := (0 : Int32)) C (by decide) dX3_command_200 ?_
        exact r_zreturn (x := false) C dX3_command_201 (Nat.le_refl _) (Nat.le_refl _) ⟨_, rfl, hw⟩
      · have hw := hw.2 hc22
        refine r_aload_n C rfl 5 rfl dX3_command_181 (r_iload_n C rfl 3 rfl dX3_command_182 (r_iload_n C rfl 6 rfl dX3_command_183 (r_bipush (v := (10 : Int32)) C (by decide) dX3_command_184 (r_idiv C (by decide) dX3_command_186 (r_bipush (v := (100 : Int32)) C (by decide) dX3_command_187 ?_)))))
        refine r_irem C (by decide) dX3_command_189 ?_
        obtain ⟨hq23, hw⟩ := hw
        refine r_callV (ci := 2) (rest := []) (As := [.int ((i1 / (1000 : Int32)) - (i1 / (1000 : Int32)) / (100 : Int32) * (100 : Int32)), .int ((i1 / (10 : Int32)) - (i1 / (10 : Int32)) / (100 : Int32) * (100 : Int32))]) C sg_X3_runShow rfl rfl q2606 q2608 qs72 q90 q2609 rfl (Nat.le_of_ble_eq_true rfl) dX3_command_190 rfl hq23 (Nat.le_refl _) (Nat.le_refl _) (c_X3_runShow G l a0 ((i1 / (1000 : Int32)) - (i1 / (1000 : Int32)) / (100 : Int32) * (100 : Int32)) ((i1 / (10 : Int32)) - (i1 / (10 : Int32)) / (100 : Int32) * (100 : Int32)) h _ hw) (k_Z (fun r24 h25 hw => ?_))
        have hJ : V h25 0 0 201 [] [.int (bI (if r24 = false then false else true))] := by
          exact r_zreturn (x := (if r24 = false then false else true)) C dX3_command_201 (Nat.le_refl _) (Nat.le_refl _) ⟨_, rfl, hw⟩
        refine r_if_eq_b (tgt := 200) C (by decide) dX3_command_193 (fun hc26 => ?_) (fun hc26 => ?_)
        · have hJ27 := hJ
          try simp only [if_pos hc26] at hJ27
          refine r_iconst (v := (0 : Int32)) C (by decide) dX3_command_200 ?_
          exact r_sub C [] rfl hJ27
        · have hJ27 := hJ
          try simp only [if_neg (show ¬ r24 = false from by rw [hc26]; decide)] at hJ27
          refine r_iconst (v := (1 : Int32)) C (by decide) dX3_command_196 (r_goto (tgt := 201) C (by decide) dX3_command_197 ?_)
          exact r_sub C [] rfl hJ27
    | 5, _, e9 =>
      have e9 : i1 / (100000 : Int32) = (6 : Int32) := e9.trans (by decide)
      have hw := hw.2.2.2.2.2.2.1 e9
      refine r_tableAt (k := (6 : Int32)) (off := 158) (tgt := 202) C e9 (by decide) (by decide) (by decide) (by decide) dX3_command_44 ?_
      refine r_iload_n C rfl 6 rfl dX3_command_202 (r_sipush (v := (10000 : Int32)) C (by decide) dX3_command_203 (r_irem C (by decide) dX3_command_206 ?_))
      refine r_if_ne (tgt := 222) C (by decide) dX3_command_207 (fun hc28 => ?_) (fun hc28 => ?_)
      · have hw := hw.1 hc28
        refine r_iconst (v := (0 : Int32)) C (by decide) dX3_command_222 ?_
        exact r_zreturn (x := false) C dX3_command_223 (Nat.le_refl _) (Nat.le_refl _) ⟨_, rfl, hw⟩
      · have hw := hw.2 hc28
        refine r_aload_n C rfl 5 rfl dX3_command_210 (r_iload_n C rfl 4 rfl dX3_command_211 ?_)
        obtain ⟨hq29, hw⟩ := hw
        refine r_callV (ci := 2) (rest := []) (As := [.int ((i1 / (10000 : Int32)) - (i1 / (10000 : Int32)) / (10 : Int32) * (10 : Int32))]) C sg_X3_runSort rfl rfl q2610 q2612 qs73 q90 q2613 rfl (Nat.le_of_ble_eq_true rfl) dX3_command_212 rfl hq29 (Nat.le_refl _) (Nat.le_refl _) (c_X3_runSort G l a0 ((i1 / (10000 : Int32)) - (i1 / (10000 : Int32)) / (10 : Int32) * (10 : Int32)) h _ hw) (k_Z (fun r30 h31 hw => ?_))
        have hJ : V h31 0 0 223 [] [.int (bI (if r30 = false then false else true))] := by
          exact r_zreturn (x := (if r30 = false then false else true)) C dX3_command_223 (Nat.le_refl _) (Nat.le_refl _) ⟨_, rfl, hw⟩
        refine r_if_eq_b (tgt := 222) C (by decide) dX3_command_215 (fun hc32 => ?_) (fun hc32 => ?_)
        · have hJ33 := hJ
          try simp only [if_pos hc32] at hJ33
          refine r_iconst (v := (0 : Int32)) C (by decide) dX3_command_222 ?_
          exact r_sub C [] rfl hJ33
        · have hJ33 := hJ
          try simp only [if_neg (show ¬ r30 = false from by rw [hc32]; decide)] at hJ33
          refine r_iconst (v := (1 : Int32)) C (by decide) dX3_command_218 (r_goto (tgt := 223) C (by decide) dX3_command_219 ?_)
          exact r_sub C [] rfl hJ33
    | 6, _, e9 =>
      have e9 : i1 / (100000 : Int32) = (7 : Int32) := e9.trans (by decide)
      have hw := hw.2.2.2.2.2.2.2.1 e9
      refine r_tableAt (k := (7 : Int32)) (off := 180) (tgt := 224) C e9 (by decide) (by decide) (by decide) (by decide) dX3_command_44 ?_
      refine r_iload C 1 rfl dX3_command_224 ?_
      refine r_if_ne (tgt := 248) C (by decide) dX3_command_226 (fun hc34 => ?_) (fun hc34 => ?_)
      · have hw := hw.1 hc34
        refine r_iconst (v := (0 : Int32)) C (by decide) dX3_command_248 ?_
        exact r_zreturn (x := false) C dX3_command_249 (Nat.le_refl _) (Nat.le_refl _) ⟨_, rfl, hw⟩
      · have hw := hw.2 hc34
        refine r_aload_n C rfl 5 rfl dX3_command_229 (r_iload_n C rfl 4 rfl dX3_command_230 (r_iload_n C rfl 6 rfl dX3_command_231 (r_bipush (v := (100 : Int32)) C (by decide) dX3_command_232 (r_idiv C (by decide) dX3_command_234 (r_bipush (v := (100 : Int32)) C (by decide) dX3_command_235 ?_)))))
        refine r_irem C (by decide) dX3_command_237 ?_
        obtain ⟨hq35, hw⟩ := hw
        refine r_callV (ci := 2) (rest := []) (As := [.int ((i1 / (10000 : Int32)) - (i1 / (10000 : Int32)) / (10 : Int32) * (10 : Int32)), .int ((i1 / (100 : Int32)) - (i1 / (100 : Int32)) / (100 : Int32) * (100 : Int32))]) C sg_X3_runSet rfl rfl q2614 q2616 qs74 q90 q2617 rfl (Nat.le_of_ble_eq_true rfl) dX3_command_238 rfl hq35 (Nat.le_refl _) (Nat.le_refl _) (c_X3_runSet G l a0 ((i1 / (10000 : Int32)) - (i1 / (10000 : Int32)) / (10 : Int32) * (10 : Int32)) ((i1 / (100 : Int32)) - (i1 / (100 : Int32)) / (100 : Int32) * (100 : Int32)) h _ hw) (k_Z (fun r36 h37 hw => ?_))
        have hJ : V h37 0 0 249 [] [.int (bI (if r36 = false then false else true))] := by
          exact r_zreturn (x := (if r36 = false then false else true)) C dX3_command_249 (Nat.le_refl _) (Nat.le_refl _) ⟨_, rfl, hw⟩
        refine r_if_eq_b (tgt := 248) C (by decide) dX3_command_241 (fun hc38 => ?_) (fun hc38 => ?_)
        · have hJ39 := hJ
          try simp only [if_pos hc38] at hJ39
          refine r_iconst (v := (0 : Int32)) C (by decide) dX3_command_248 ?_
          exact r_sub C [] rfl hJ39
        · have hJ39 := hJ
          try simp only [if_neg (show ¬ r36 = false from by rw [hc38]; decide)] at hJ39
          refine r_iconst (v := (1 : Int32)) C (by decide) dX3_command_244 (r_goto (tgt := 249) C (by decide) dX3_command_245 ?_)
          exact r_sub C [] rfl hJ39
    | 7, _, e9 =>
      have e9 : i1 / (100000 : Int32) = (8 : Int32) := e9.trans (by decide)
      have hw := hw.2.2.2.2.2.2.2.2.1 e9
      refine r_tableAt (k := (8 : Int32)) (off := 206) (tgt := 250) C e9 (by decide) (by decide) (by decide) (by decide) dX3_command_44 ?_
      refine r_iload_n C rfl 6 rfl dX3_command_250 (r_ldc_w (v := (100000 : Int32)) C q2589 dX3_command_251 (r_irem C (by decide) dX3_command_254 (r_bipush (v := (100 : Int32)) C (by decide) dX3_command_255 ?_)))
      refine r_icmp_ge (tgt := 277) C (by decide) dX3_command_257 (fun hc40 => ?_) (fun hc40 => ?_)
      · have hw := hw.1 hc40
        refine r_iconst (v := (0 : Int32)) C (by decide) dX3_command_277 ?_
        exact r_zreturn (x := false) C dX3_command_278 (Nat.le_refl _) (Nat.le_refl _) ⟨_, rfl, hw⟩
      · have hw := hw.2 hc40
        refine r_aload_n C rfl 5 rfl dX3_command_260 (r_aload_n C rfl 5 rfl dX3_command_261 ?_)
        refine r_gfR (k := 2) C kX3 (by decide) (Or.inl q2157) (Or.inl rfl) dX3_command_262 hw (fun v41 hw => ?_)
        obtain ⟨y42, rfl, hw_y42⟩ := hw
        have hw := hw_y42
        obtain ⟨hq43, hw⟩ := hw
        refine r_callV (ci := 2) (rest := []) (As := [.ref y42]) C sg_X3_fakes rfl rfl q2335 q2337 qs53 q90 q2338 rfl (Nat.le_of_ble_eq_true rfl) dX3_command_265 rfl hq43 (Nat.le_refl _) (Nat.le_refl _) (c_X3_fakes G l a0 y42 h _ hw) (k_I (fun r44 h45 hw => ?_))
        refine r_iload C 1 rfl dX3_command_268 ?_
        have hJ : V h45 0 0 278 [] [.int (bI (if (i1 - i1 / (100 : Int32) * (100 : Int32)) < r44 then false else true))] := by
          exact r_zreturn (x := (if (i1 - i1 / (100 : Int32) * (100 : Int32)) < r44 then false else true)) C dX3_command_278 (Nat.le_refl _) (Nat.le_refl _) ⟨_, rfl, hw⟩
        refine r_icmp_gt (tgt := 277) C (by decide) dX3_command_270 (fun hc46 => ?_) (fun hc46 => ?_)
        · have hJ47 := hJ
          try simp only [if_pos hc46] at hJ47
          refine r_iconst (v := (0 : Int32)) C (by decide) dX3_command_277 ?_
          exact r_sub C [] rfl hJ47
        · have hJ47 := hJ
          try simp only [if_neg hc46] at hJ47
          refine r_iconst (v := (1 : Int32)) C (by decide) dX3_command_273 (r_goto (tgt := 278) C (by decide) dX3_command_274 ?_)
          exact r_sub C [] rfl hJ47
    | 8, _, e9 =>
      have e9 : i1 / (100000 : Int32) = (9 : Int32) := e9.trans (by decide)
      have hw := hw.2.2.2.2.2.2.2.2.2 e9
      refine r_tableAt (k := (9 : Int32)) (off := 235) (tgt := 279) C e9 (by decide) (by decide) (by decide) (by decide) dX3_command_44 ?_
      refine r_iload_n C rfl 6 rfl dX3_command_279 (r_sipush (v := (1000 : Int32)) C (by decide) dX3_command_280 (r_irem C (by decide) dX3_command_283 (r_bipush (v := (10 : Int32)) C (by decide) dX3_command_284 ?_)))
      refine r_icmp_ge (tgt := 318) C (by decide) dX3_command_286 (fun hc48 => ?_) (fun hc48 => ?_)
      · have hw := hw.1 hc48
        refine r_iconst (v := (0 : Int32)) C (by decide) dX3_command_318 ?_
        exact r_zreturn (x := false) C dX3_command_319 (Nat.le_refl _) (Nat.le_refl _) ⟨_, rfl, hw⟩
      · have hw := hw.2 hc48
        refine r_aload_n C rfl 5 rfl dX3_command_289 ?_
        refine r_gfR (k := 2) C kX3 (by decide) (Or.inl q2157) (Or.inl rfl) dX3_command_290 hw (fun v49 hw => ?_)
        refine r_iload_n C rfl 3 rfl dX3_command_293 ?_
        obtain ⟨y50, rfl, hw_y50⟩ := hw
        have hw := hw_y50
        refine r_callS (rest := []) (As := [.ref y50, .int ((i1 / (1000 : Int32)) - (i1 / (1000 : Int32)) / (100 : Int32) * (100 : Int32))]) C sg_X3_hasSeal q2304 q2305 q90 q2306 rfl (Nat.le_of_ble_eq_true rfl) dX3_command_294 rfl (Nat.le_refl _) (Nat.le_refl _) (c_X3_hasSeal G l y50 ((i1 / (1000 : Int32)) - (i1 / (1000 : Int32)) / (100 : Int32) * (100 : Int32)) h _ hw) (k_Z (fun r51 h52 hw => ?_))
        refine r_if_eq_b (tgt := 318) C (by decide) dX3_command_297 (fun hc53 => ?_) (fun hc53 => ?_)
        · have hw := hw.1 hc53
          refine r_iconst (v := (0 : Int32)) C (by decide) dX3_command_318 ?_
          exact r_zreturn (x := false) C dX3_command_319 (Nat.le_refl _) (Nat.le_refl _) ⟨_, rfl, hw⟩
        · have hw := hw.2 hc53
          refine r_aload_n C rfl 5 rfl dX3_command_300 (r_aload_n C rfl 5 rfl dX3_command_301 ?_)
          refine r_gfR (k := 2) C kX3 (by decide) (Or.inl q2157) (Or.inl rfl) dX3_command_302 hw (fun v54 hw => ?_)
          refine r_iload_n C rfl 3 rfl dX3_command_305 ?_
          obtain ⟨y55, rfl, hw_y55⟩ := hw
          have hw := hw_y55
          obtain ⟨hq56, hw⟩ := hw
          refine r_callV (ci := 2) (rest := []) (As := [.ref y55, .int ((i1 / (1000 : Int32)) - (i1 / (1000 : Int32)) / (100 : Int32) * (100 : Int32))]) C sg_X3_fake rfl rfl q2339 q2341 qs54 q90 q2342 rfl (Nat.le_of_ble_eq_true rfl) dX3_command_306 rfl hq56 (Nat.le_refl _) (Nat.le_refl _) (c_X3_fake G l a0 y55 ((i1 / (1000 : Int32)) - (i1 / (1000 : Int32)) / (100 : Int32) * (100 : Int32)) h52 _ hw) (k_I (fun r57 h58 hw => ?_))
          refine r_iload C 0 rfl dX3_command_309 ?_
          have hJ : V h58 0 0 319 [] [.int (bI (if ¬ r57 = (i1 - i1 / (10 : Int32) * (10 : Int32)) then false else true))] := by
            exact r_zreturn (x := (if ¬ r57 = (i1 - i1 / (10 : Int32) * (10 : Int32)) then false else true)) C dX3_command_319 (Nat.le_refl _) (Nat.le_refl _) ⟨_, rfl, hw⟩
          refine r_icmp_ne (tgt := 318) C (by decide) dX3_command_311 (fun hc59 => ?_) (fun hc59 => ?_)
          · have hJ60 := hJ
            try simp only [if_pos hc59] at hJ60
            refine r_iconst (v := (0 : Int32)) C (by decide) dX3_command_318 ?_
            exact r_sub C [] rfl hJ60
          · have hJ60 := hJ
            try simp only [if_neg (show ¬ ¬ r57 = (i1 - i1 / (10 : Int32) * (10 : Int32)) from fun z => z hc59)] at hJ60
            refine r_iconst (v := (1 : Int32)) C (by decide) dX3_command_314 (r_goto (tgt := 319) C (by decide) dX3_command_315 ?_)
            exact r_sub C [] rfl hJ60
    | k9 + 9, hk9, _ => exact absurd hk9 (by omega)
def S_X3_runScript_57 (Q : Int32 → Hp → Prop) (LA57 : Hp → Nat → Int32 → Int64 → Int32 → Prop) (h : Hp) (x0 : Nat) (x1 : Int32) (x2 : Int64) (x4 : Int32) : Prop :=
  (x1 ≤ x4 → Q (-1 : Int32) h) ∧ (¬ x1 ≤ x4 → w_X3_tens ((6 : Int32) * ((x1 - (1 : Int32)) - x4)) h (fun r12 h13 => ¬ r12 = 0 ∧ (hasC h13 x0 2 ∧ (w_X3_command x0 (((x2 / r12) - (x2 / r12) / (1000000 : Int64) * (1000000 : Int64)).toInt32) h13 (fun r16 h17 => (r16 = true → LA57 h17 x0 x1 x2 (x4 + (1 : Int32))) ∧ (r16 = false → Q x4 h17))))))
def B_X3_runScript_57 (Q : Int32 → Hp → Prop) : Nat → Hp → Nat → Int32 → Int64 → Int32 → Prop
  | 0, _, _, _, _, _ => False
  | k + 1, h, x0, x1, x2, x4 => S_X3_runScript_57 Q (B_X3_runScript_57 Q k) h x0 x1 x2 x4
def B_X3_runScript_35 (Q : Int32 → Hp → Prop) (h : Hp) (x0 : Nat) (x1 : Int32) (x2 : Int64) (s0 : Nat) (s1 : Bool) : Prop :=
  hasC h s0 2 ∧ (w_X3_refused s0 (bI s1) h (fun r2 h3 => (r2 = false → gfR h3 x0 2 1 (fun v5 => gfR h3 x0 2 2 (fun v6 => nn v5 (fun y7 => nn v6 (fun y8 => w_X3_copy y7 y8 h3 (fun h10 => ∃ k9 : Nat, B_X3_runScript_57 Q k9 h10 x0 x1 x2 (0 : Int32))))))) ∧ (r2 = true → Q (0 : Int32) h3)))
def w_X3_runScript (a0 : Nat) (i1 : Int32) (j2 : Int64) (h : Hp) (Q : Int32 → Hp → Prop) : Prop :=
  w_X3_in i1.toInt64 (1 : Int64) (3 : Int64) h (fun r19 h20 => (r19 = false → B_X3_runScript_35 Q h20 a0 i1 j2 a0 true) ∧ (r19 = true → w_X3_tens ((6 : Int32) * i1) h20 (fun r22 h23 => w_X3_in j2 (0 : Int64) (r22 - (1 : Int64)) h23 (fun r24 h25 => B_X3_runScript_35 Q h25 a0 i1 j2 a0 (if r24 = false then true else false)))))
theorem s_X3_runScript_57 {G : gT} {l : Launch} {V : Hp → Nat → Nat → Nat → List (Nat × Value) → List Value → Prop} {Q : Int32 → Hp → Prop} (C : Cx G l V cX3_runScript 5 RX3 12 276 0 0 (pI Q) none (some .int) [] false) (LA57 : Hp → Nat → Int32 → Int64 → Int32 → Prop) (hLA57 : ∀ (h : Hp) (x0 : Nat) (x1 : Int32) (x2 : Int64) (x4 : Int32), LA57 h x0 x1 x2 x4 → V h 0 0 57 [(0, .ref x0), (1, .int x1), (2, .long x2), (4, .int x4)] []) (h : Hp) (x0 : Nat) (x1 : Int32) (x2 : Int64) (x4 : Int32) (hw : S_X3_runScript_57 Q LA57 h x0 x1 x2 x4) : V h 0 0 57 [(0, .ref x0), (1, .int x1), (2, .long x2), (4, .int x4)] [] := by
  unfold S_X3_runScript_57 at hw
  refine r_iload C 3 rfl dX3_runScript_57 (r_iload_n C rfl 1 rfl dX3_runScript_59 ?_)
  refine r_icmp_ge (tgt := 98) C (by decide) dX3_runScript_60 (fun hc11 => ?_) (fun hc11 => ?_)
  · have hw := hw.1 hc11
    refine r_iconst (v := (-1 : Int32)) C (by decide) dX3_runScript_98 ?_
    exact r_ireturn C dX3_runScript_99 (Nat.le_refl _) (Nat.le_refl _) ⟨_, rfl, hw⟩
  · have hw := hw.2 hc11
    refine r_aload_n C rfl 0 rfl dX3_runScript_63 (r_lload_n C rfl 2 rfl dX3_runScript_64 (r_bipush (v := (6 : Int32)) C (by decide) dX3_runScript_65 (r_iload_n C rfl 1 rfl dX3_runScript_67 (r_iconst (v := (1 : Int32)) C (by decide) dX3_runScript_68 (r_isub C dX3_runScript_69 ?_)))))
    refine r_iload C 3 rfl dX3_runScript_70 (r_isub C dX3_runScript_72 (r_imul C dX3_runScript_73 ?_))
    refine r_callS (rest := [.long x2, .ref x0]) (As := [.int ((6 : Int32) * ((x1 - (1 : Int32)) - x4))]) C sg_X3_tens q2580 q2581 q90 q2582 rfl (Nat.le_of_ble_eq_true rfl) dX3_runScript_74 rfl (Nat.le_refl _) (Nat.le_refl _) (c_X3_tens G l ((6 : Int32) * ((x1 - (1 : Int32)) - x4)) h _ hw) (k_J (fun r12 h13 hw => ?_))
    obtain ⟨hz14, hw⟩ := hw
    refine r_ldiv C hz14 dX3_runScript_77 (r_ldc2 (v := (1000000 : Int64)) C q2584 dX3_runScript_78 (r_lrem C (by decide) dX3_runScript_81 (r_l2i C dX3_runScript_82 ?_)))
    obtain ⟨hq15, hw⟩ := hw
    refine r_callV (ci := 2) (rest := []) (As := [.int (((x2 / r12) - (x2 / r12) / (1000000 : Int64) * (1000000 : Int64)).toInt32)]) C sg_X3_command rfl rfl q2585 q2587 qs67 q90 q2588 rfl (Nat.le_of_ble_eq_true rfl) dX3_runScript_83 rfl hq15 (Nat.le_refl _) (Nat.le_refl _) (c_X3_command G l x0 (((x2 / r12) - (x2 / r12) / (1000000 : Int64) * (1000000 : Int64)).toInt32) h13 _ hw) (k_Z (fun r16 h17 hw => ?_))
    refine r_if_ne_b (tgt := 92) C (by decide) dX3_runScript_86 (fun hc18 => ?_) (fun hc18 => ?_)
    · have hw := hw.1 hc18
      refine r_iinc (v := x4 + (1 : Int32)) (L' := [(4, .int (x4 + (1 : Int32))), (0, .ref x0), (1, .int x1), (2, .long x2)]) C (u := 3) rfl (by rfl) (by decide) rfl dX3_runScript_92 (r_goto (tgt := 57) C (by decide) dX3_runScript_95 ?_)
      exact r_sub C [1, 2, 3, 0] rfl (hLA57 _ _ _ _ _ hw)
    · have hw := hw.2 hc18
      refine r_iload C 3 rfl dX3_runScript_89 ?_
      exact r_ireturn C dX3_runScript_91 (Nat.le_refl _) (Nat.le_refl _) ⟨_, rfl, hw⟩
theorem b_X3_runScript_57 {G : gT} {l : Launch} {V : Hp → Nat → Nat → Nat → List (Nat × Value) → List Value → Prop} {Q : Int32 → Hp → Prop} (C : Cx G l V cX3_runScript 5 RX3 12 276 0 0 (pI Q) none (some .int) [] false) : ∀ (k : Nat) (h : Hp) (x0 : Nat) (x1 : Int32) (x2 : Int64) (x4 : Int32), B_X3_runScript_57 Q k h x0 x1 x2 x4 → V h 0 0 57 [(0, .ref x0), (1, .int x1), (2, .long x2), (4, .int x4)] [] := by
  intro k
  induction k with
  | zero =>
    intro h x0 x1 x2 x4 hw
    exact hw.elim
  | succ k ih =>
    intro h x0 x1 x2 x4 hw
    exact s_X3_runScript_57 C _ (fun h x0 x1 x2 x4 hw => ih h x0 x1 x2 x4 hw) h x0 x1 x2 x4 hw
theorem b_X3_runScript_35 {G : gT} {l : Launch} {V : Hp → Nat → Nat → Nat → List (Nat × Value) → List Value → Prop} {Q : Int32 → Hp → Prop} (C : Cx G l V cX3_runScript 5 RX3 12 276 0 0 (pI Q) none (some .int) [] false) (h : Hp) (x0 : Nat) (x1 : Int32) (x2 : Int64) (s0 : Nat) (s1 : Bool) (hw : B_X3_runScript_35 Q h x0 x1 x2 s0 s1) : V h 0 0 35 [(0, .ref x0), (1, .int x1), (2, .long x2)] [.int (bI s1), .ref s0] := by
  unfold B_X3_runScript_35 at hw
  obtain ⟨hq1, hw⟩ := hw
  refine r_callV (ci := 2) (rest := []) (As := [.int (bI s1)]) C sg_X3_refused rfl rfl q2222 q2224 qs38 q90 q2225 rfl (Nat.le_of_ble_eq_true rfl) dX3_runScript_35 rfl hq1 (Nat.le_refl _) (Nat.le_refl _) (c_X3_refused G l s0 (bI s1) h _ hw) (k_Z (fun r2 h3 hw => ?_))
  refine r_if_eq_b (tgt := 43) C (by decide) dX3_runScript_38 (fun hc4 => ?_) (fun hc4 => ?_)
  · have hw := hw.1 hc4
    refine r_aload_n C rfl 0 rfl dX3_runScript_43 ?_
    refine r_gfR (k := 1) C kX3 (by decide) (Or.inl q2156) (Or.inl rfl) dX3_runScript_44 hw (fun v5 hw => ?_)
    refine r_aload_n C rfl 0 rfl dX3_runScript_47 ?_
    refine r_gfR (k := 2) C kX3 (by decide) (Or.inl q2157) (Or.inl rfl) dX3_runScript_48 hw (fun v6 hw => ?_)
    obtain ⟨y7, rfl, hw_y7⟩ := hw
    have hw := hw_y7
    obtain ⟨y8, rfl, hw_y8⟩ := hw
    have hw := hw_y8
    refine r_callS (rest := []) (As := [.ref y7, .ref y8]) C sg_X3_copy q2327 q2328 q90 q2329 rfl (Nat.le_of_ble_eq_true rfl) dX3_runScript_51 rfl (Nat.le_refl _) (Nat.le_refl _) (c_X3_copy G l y7 y8 h3 _ hw) (k_V (fun h10 hw => ?_))
    refine r_iconst (v := (0 : Int32)) C (by decide) dX3_runScript_54 (r_istore (L' := [(4, .int (0 : Int32)), (0, .ref x0), (1, .int x1), (2, .long x2)]) C (by decide) rfl dX3_runScript_55 ?_)
    obtain ⟨k9, hw⟩ := hw
    exact r_sub C [1, 2, 3, 0] rfl (b_X3_runScript_57 C _ _ _ _ _ _ hw)
  · have hw := hw.2 hc4
    refine r_iconst (v := (0 : Int32)) C (by decide) dX3_runScript_41 ?_
    exact r_ireturn C dX3_runScript_42 (Nat.le_refl _) (Nat.le_refl _) ⟨_, rfl, hw⟩
theorem sg_X3_runScript : ySg yX3_runScript 2 = true := by decide +kernel
theorem c_X3_runScript (G : gT) (l : Launch) (a0 : Nat) (i1 : Int32) (j2 : Int64) (h : Hp) (Q : Int32 → Hp → Prop) (hw : w_X3_runScript a0 i1 j2 h Q) : Ct G l yX3_runScript (ws_ yX3_runScript cX3_runScript 5 (some .int)) 12 276 0 0 [.ref a0, .int i1, .long j2] h (pI Q) := by
  refine Ct.of (own := RX3) false (by decide +kernel) rfl (show (_ : Nat) ≤ _ from Nat.le_of_ble_eq_true rfl) (fun z => by cases z) (fun V C => ?_)
  show V h 0 0 0 [(0, .ref a0), (1, .int i1), (2, .long j2)] []
  unfold w_X3_runScript at hw
  refine r_aload_n C rfl 0 rfl dX3_runScript_0 (r_iload_n C rfl 1 rfl dX3_runScript_1 (r_i2l C dX3_runScript_2 (r_lconst (v := (1 : Int64)) C (by decide) dX3_runScript_3 (r_ldc2 (v := (3 : Int64)) C q2434 dX3_runScript_4 ?_))))
  refine r_callS (rest := [.ref a0]) (As := [.long i1.toInt64, .long (1 : Int64), .long (3 : Int64)]) C sg_X3_in q2219 q2220 q90 q2221 rfl (Nat.le_of_ble_eq_true rfl) dX3_runScript_7 rfl (Nat.le_refl _) (Nat.le_refl _) (c_X3_in G l i1.toInt64 (1 : Int64) (3 : Int64) h _ hw) (k_Z (fun r19 h20 hw => ?_))
  refine r_if_eq_b (tgt := 34) C (by decide) dX3_runScript_10 (fun hc21 => ?_) (fun hc21 => ?_)
  · have hw := hw.1 hc21
    refine r_iconst (v := (1 : Int32)) C (by decide) dX3_runScript_34 ?_
    exact r_sub C [0, 1, 2] rfl (b_X3_runScript_35 C _ _ _ _ _ _ hw)
  · have hw := hw.2 hc21
    refine r_lload_n C rfl 2 rfl dX3_runScript_13 (r_lconst (v := (0 : Int64)) C (by decide) dX3_runScript_14 (r_bipush (v := (6 : Int32)) C (by decide) dX3_runScript_15 (r_iload_n C rfl 1 rfl dX3_runScript_17 (r_imul C dX3_runScript_18 ?_))))
    refine r_callS (rest := [.long (0 : Int64), .long j2, .ref a0]) (As := [.int ((6 : Int32) * i1)]) C sg_X3_tens q2580 q2581 q90 q2582 rfl (Nat.le_of_ble_eq_true rfl) dX3_runScript_19 rfl (Nat.le_refl _) (Nat.le_refl _) (c_X3_tens G l ((6 : Int32) * i1) h20 _ hw) (k_J (fun r22 h23 hw => ?_))
    refine r_lconst (v := (1 : Int64)) C (by decide) dX3_runScript_22 (r_lsub C dX3_runScript_23 ?_)
    refine r_callS (rest := [.ref a0]) (As := [.long j2, .long (0 : Int64), .long (r22 - (1 : Int64))]) C sg_X3_in q2219 q2220 q90 q2221 rfl (Nat.le_of_ble_eq_true rfl) dX3_runScript_24 rfl (Nat.le_refl _) (Nat.le_refl _) (c_X3_in G l j2 (0 : Int64) (r22 - (1 : Int64)) h23 _ hw) (k_Z (fun r24 h25 hw => ?_))
    have hJ : V h25 0 0 35 [(0, .ref a0), (1, .int i1), (2, .long j2)] [.int (bI (if r24 = false then true else false)), .ref a0] := by
      exact r_sub C [0, 1, 2] rfl (b_X3_runScript_35 C _ _ _ _ _ _ hw)
    refine r_if_eq_b (tgt := 34) C (by decide) dX3_runScript_27 (fun hc26 => ?_) (fun hc26 => ?_)
    · have hJ27 := hJ
      try simp only [if_pos hc26] at hJ27
      refine r_iconst (v := (1 : Int32)) C (by decide) dX3_runScript_34 ?_
      exact r_sub C [0, 1, 2] rfl hJ27
    · have hJ27 := hJ
      try simp only [if_neg (show ¬ r24 = false from by rw [hc26]; decide)] at hJ27
      refine r_iconst (v := (0 : Int32)) C (by decide) dX3_runScript_30 (r_goto (tgt := 35) C (by decide) dX3_runScript_31 ?_)
      exact r_sub C [0, 1, 2] rfl hJ27
def w_X3_stir (a0 : Nat) (i1 : Int32) (h : Hp) (Q : Hp → Prop) : Prop :=
  ((i1 - i1 / (8 : Int32) * (8 : Int32)).toInt < 0 ∨ 6 < (i1 - i1 / (8 : Int32) * (8 : Int32)).toInt → hasC h a0 2 ∧ (w_X3_runSort a0 ((i1 / (8 : Int32)) - (i1 / (8 : Int32)) / (6 : Int32) * (6 : Int32)) h (fun r47 h48 => Q h48))) ∧ ((i1 - i1 / (8 : Int32) * (8 : Int32)) = (0 : Int32) → gfR h a0 2 2 (fun v1 => nn v1 (fun y2 => w_X3_hasDie y2 ((i1 / (8 : Int32)) - (i1 / (8 : Int32)) / (10 : Int32) * (10 : Int32)) h (fun r3 h4 => (r3 = false → Q h4) ∧ (r3 = true → gfR h4 a0 2 2 (fun v6 => nn v6 (fun y7 => rdI h4 y7 (2 : Int32) (fun v8 => ((24 : Int32) ≤ v8 → Q h4) ∧ (¬ (24 : Int32) ≤ v8 → gfR h4 a0 2 2 (fun v10 => nn v10 (fun y11 => w_X3_goSeal y11 ((i1 / (8 : Int32)) - (i1 / (8 : Int32)) / (10 : Int32) * (10 : Int32)) (((i1 / (8 : Int32)) / (16 : Int32)) - ((i1 / (8 : Int32)) / (16 : Int32)) / (2 : Int32) * (2 : Int32)) ((((i1 / (8 : Int32)) / (32 : Int32)) - ((i1 / (8 : Int32)) / (32 : Int32)) / (9 : Int32) * (9 : Int32)) - (1 : Int32)) (((i1 / (8 : Int32)) / (512 : Int32)) - ((i1 / (8 : Int32)) / (512 : Int32)) / (20 : Int32) * (20 : Int32)) (0 : Int32) h4 (fun r12 h13 => Q h13)))))))))))) ∧ ((i1 - i1 / (8 : Int32) * (8 : Int32)) = (1 : Int32) → gfR h a0 2 2 (fun v16 => nn v16 (fun y17 => w_X3_hasDie y17 ((i1 / (8 : Int32)) - (i1 / (8 : Int32)) / (10 : Int32) * (10 : Int32)) h (fun r18 h19 => (r18 = false → Q h19) ∧ (r18 = true → gfR h19 a0 2 2 (fun v21 => nn v21 (fun y22 => rdI h19 y22 (2 : Int32) (fun v23 => ((24 : Int32) ≤ v23 → Q h19) ∧ (¬ (24 : Int32) ≤ v23 → gfR h19 a0 2 2 (fun v25 => nn v25 (fun y26 => w_X3_goSeal y26 ((i1 / (8 : Int32)) - (i1 / (8 : Int32)) / (10 : Int32) * (10 : Int32)) (((i1 / (8 : Int32)) / (16 : Int32)) - ((i1 / (8 : Int32)) / (16 : Int32)) / (2 : Int32) * (2 : Int32)) ((((i1 / (8 : Int32)) / (32 : Int32)) - ((i1 / (8 : Int32)) / (32 : Int32)) / (9 : Int32) * (9 : Int32)) - (1 : Int32)) (((i1 / (8 : Int32)) / (512 : Int32)) - ((i1 / (8 : Int32)) / (512 : Int32)) / (20 : Int32) * (20 : Int32)) (0 : Int32) h19 (fun r27 h28 => Q h28)))))))))))) ∧ ((i1 - i1 / (8 : Int32) * (8 : Int32)) = (2 : Int32) → hasC h a0 2 ∧ (w_X3_runCrack a0 ((i1 / (8 : Int32)) - (i1 / (8 : Int32)) / (10 : Int32) * (10 : Int32)) ((1000 : Int32) + (((i1 / (8 : Int32)) / (16 : Int32)) - ((i1 / (8 : Int32)) / (16 : Int32)) / (1000 : Int32) * (1000 : Int32))) h (fun r32 h33 => Q h33))) ∧ ((i1 - i1 / (8 : Int32) * (8 : Int32)) = (3 : Int32) → hasC h a0 2 ∧ (w_X3_runShow a0 ((i1 / (8 : Int32)) - (i1 / (8 : Int32)) / (24 : Int32) * (24 : Int32)) (((i1 / (8 : Int32)) / (32 : Int32)) - ((i1 / (8 : Int32)) / (32 : Int32)) / (16 : Int32) * (16 : Int32)) h (fun r35 h36 => Q h36))) ∧ ((i1 - i1 / (8 : Int32) * (8 : Int32)) = (4 : Int32) → hasC h a0 2 ∧ (w_X3_runHang a0 ((i1 / (8 : Int32)) - (i1 / (8 : Int32)) / (24 : Int32) * (24 : Int32)) (((i1 / (8 : Int32)) / (32 : Int32)) - ((i1 / (8 : Int32)) / (32 : Int32)) / (6 : Int32) * (6 : Int32)) h (fun r38 h39 => Q h39))) ∧ ((i1 - i1 / (8 : Int32) * (8 : Int32)) = (5 : Int32) → hasC h a0 2 ∧ (w_X3_runShelve a0 ((i1 / (8 : Int32)) - (i1 / (8 : Int32)) / (24 : Int32) * (24 : Int32)) (((i1 / (8 : Int32)) / (32 : Int32)) - ((i1 / (8 : Int32)) / (32 : Int32)) / (6 : Int32) * (6 : Int32)) (0 : Int32) h (fun r41 h42 => Q h42))) ∧ ((i1 - i1 / (8 : Int32) * (8 : Int32)) = (6 : Int32) → hasC h a0 2 ∧ (w_X3_runCut a0 ((i1 / (8 : Int32)) - (i1 / (8 : Int32)) / (24 : Int32) * (24 : Int32)) h (fun r44 h45 => Q h45)))
theorem sg_X3_stir : ySg yX3_stir 1 = true := by decide +kernel
theorem c_X3_stir (G : gT) (l : Launch) (a0 : Nat) (i1 : Int32) (h : Hp) (Q : Hp → Prop) (hw : w_X3_stir a0 i1 h Q) : Ct G l yX3_stir (ws_ yX3_stir cX3_stir 4 (none)) 11 250 0 0 [.ref a0, .int i1] h (pV Q) := by
  refine Ct.of (own := RX3) false (by decide +kernel) rfl (show (_ : Nat) ≤ _ from Nat.le_of_ble_eq_true rfl) (fun z => by cases z) (fun V C => ?_)
  show V h 0 0 0 [(0, .ref a0), (1, .int i1)] []
  unfold w_X3_stir at hw
  refine r_iload_n C rfl 1 rfl dX3_stir_0 (r_bipush (v := (8 : Int32)) C (by decide) dX3_stir_1 (r_idiv C (by decide) dX3_stir_3 (r_istore_n (L' := [(2, .int (i1 / (8 : Int32))), (0, .ref a0), (1, .int i1)]) C rfl (by decide) rfl dX3_stir_4 (r_iload_n C rfl 2 rfl dX3_stir_5 (r_bipush (v := (8 : Int32)) C (by decide) dX3_stir_6 ?_)))))
  refine r_irem C (by decide) dX3_stir_8 ?_
  by_cases hd49 : (i1 - i1 / (8 : Int32) * (8 : Int32)).toInt < 0 ∨ 6 < (i1 - i1 / (8 : Int32) * (8 : Int32)).toInt
  · have hw := hw.1 hd49
    refine r_tableOut (tgt := 218) C hd49 (by decide) dX3_stir_9 ?_
    refine r_aload_n C rfl 1 rfl dX3_stir_218 (r_iload_n C rfl 0 rfl dX3_stir_219 (r_bipush (v := (6 : Int32)) C (by decide) dX3_stir_220 (r_irem C (by decide) dX3_stir_222 ?_)))
    obtain ⟨hq46, hw⟩ := hw
    refine r_callV (ci := 2) (rest := []) (As := [.int ((i1 / (8 : Int32)) - (i1 / (8 : Int32)) / (6 : Int32) * (6 : Int32))]) C sg_X3_runSort rfl rfl q2610 q2612 qs73 q90 q2613 rfl (Nat.le_of_ble_eq_true rfl) dX3_stir_223 rfl hq46 (Nat.le_refl _) (Nat.le_refl _) (c_X3_runSort G l a0 ((i1 / (8 : Int32)) - (i1 / (8 : Int32)) / (6 : Int32) * (6 : Int32)) h _ hw) (k_Z (fun r47 h48 hw => ?_))
    refine r_istore_n (L' := [(3, .int (bI r47)), (2, .int (i1 / (8 : Int32))), (0, .ref a0), (1, .int i1)]) C rfl (by decide) rfl dX3_stir_226 ?_
    exact r_return C dX3_stir_227 (Nat.le_refl _) (Nat.le_refl _) ⟨rfl, hw⟩
  · obtain ⟨k9, hk9, e9⟩ := tb_k 7 (by decide) hd49
    match k9, hk9, e9 with
    | 0, _, e9 =>
      have e9 : i1 - i1 / (8 : Int32) * (8 : Int32) = (0 : Int32) := e9.trans (by decide)
      have hw := hw.2.1 e9
      refine r_tableAt (k := (0 : Int32)) (off := 43) (tgt := 52) C e9 (by decide) (by decide) (by decide) (by decide) dX3_stir_9 ?_
      refine r_aload_n C rfl 1 rfl dX3_stir_52 ?_
      refine r_gfR (k := 2) C kX3 (by decide) (Or.inl q2157) (Or.inl rfl) dX3_stir_53 hw (fun v1 hw => ?_)
      refine r_iload_n C rfl 0 rfl dX3_stir_56 (r_bipush (v := (10 : Int32)) C (by decide) dX3_stir_57 (r_irem C (by decide) dX3_stir_59 ?_))
      obtain ⟨y2, rfl, hw_y2⟩ := hw
      have hw := hw_y2
      refine r_callS (rest := []) (As := [.ref y2, .int ((i1 / (8 : Int32)) - (i1 / (8 : Int32)) / (10 : Int32) * (10 : Int32))]) C sg_X3_hasDie q2291 q2292 q90 q2293 rfl (Nat.le_of_ble_eq_true rfl) dX3_stir_60 rfl (Nat.le_refl _) (Nat.le_refl _) (c_X3_hasDie G l y2 ((i1 / (8 : Int32)) - (i1 / (8 : Int32)) / (10 : Int32) * (10 : Int32)) h _ hw) (k_Z (fun r3 h4 hw => ?_))
      refine r_if_eq_b (tgt := 119) C (by decide) dX3_stir_63 (fun hc5 => ?_) (fun hc5 => ?_)
      · have hw := hw.1 hc5
        refine r_iconst (v := (0 : Int32)) C (by decide) dX3_stir_119 (r_istore_n (L' := [(3, .int (0 : Int32)), (2, .int (i1 / (8 : Int32))), (0, .ref a0), (1, .int i1)]) C rfl (by decide) rfl dX3_stir_120 (r_goto (tgt := 227) C (by decide) dX3_stir_121 ?_))
        exact r_return C dX3_stir_227 (Nat.le_refl _) (Nat.le_refl _) ⟨rfl, hw⟩
      · have hw := hw.2 hc5
        refine r_aload_n C rfl 1 rfl dX3_stir_66 ?_
        refine r_gfR (k := 2) C kX3 (by decide) (Or.inl q2157) (Or.inl rfl) dX3_stir_67 hw (fun v6 hw => ?_)
        refine r_iconst (v := (2 : Int32)) C (by decide) dX3_stir_70 ?_
        obtain ⟨y7, rfl, hw_y7⟩ := hw
        have hw := hw_y7
        refine r_iaload C dX3_stir_71 hw (fun v8 hw => ?_)
        refine r_bipush (v := (24 : Int32)) C (by decide) dX3_stir_72 ?_
        refine r_icmp_ge (tgt := 119) C (by decide) dX3_stir_74 (fun hc9 => ?_) (fun hc9 => ?_)
        · have hw := hw.1 hc9
          refine r_iconst (v := (0 : Int32)) C (by decide) dX3_stir_119 (r_istore_n (L' := [(3, .int (0 : Int32)), (2, .int (i1 / (8 : Int32))), (0, .ref a0), (1, .int i1)]) C rfl (by decide) rfl dX3_stir_120 (r_goto (tgt := 227) C (by decide) dX3_stir_121 ?_))
          exact r_return C dX3_stir_227 (Nat.le_refl _) (Nat.le_refl _) ⟨rfl, hw⟩
        · have hw := hw.2 hc9
          refine r_aload_n C rfl 1 rfl dX3_stir_77 ?_
          refine r_gfR (k := 2) C kX3 (by decide) (Or.inl q2157) (Or.inl rfl) dX3_stir_78 hw (fun v10 hw => ?_)
          refine r_iload_n C rfl 0 rfl dX3_stir_81 (r_bipush (v := (10 : Int32)) C (by decide) dX3_stir_82 (r_irem C (by decide) dX3_stir_84 (r_iload_n C rfl 0 rfl dX3_stir_85 (r_bipush (v := (16 : Int32)) C (by decide) dX3_stir_86 (r_idiv C (by decide) dX3_stir_88 ?_)))))
          refine r_iconst (v := (2 : Int32)) C (by decide) dX3_stir_89 (r_irem C (by decide) dX3_stir_90 (r_iload_n C rfl 0 rfl dX3_stir_91 (r_bipush (v := (32 : Int32)) C (by decide) dX3_stir_92 (r_idiv C (by decide) dX3_stir_94 (r_bipush (v := (9 : Int32)) C (by decide) dX3_stir_95 ?_)))))
          refine r_irem C (by decide) dX3_stir_97 (r_iconst (v := (1 : Int32)) C (by decide) dX3_stir_98 (r_isub C dX3_stir_99 (r_iload_n C rfl 0 rfl dX3_stir_100 (r_sipush (v := (512 : Int32)) C (by decide) dX3_stir_101 (r_idiv C (by decide) dX3_stir_104 ?_)))))
          refine r_bipush (v := (20 : Int32)) C (by decide) dX3_stir_105 (r_irem C (by decide) dX3_stir_107 (r_iconst (v := (0 : Int32)) C (by decide) dX3_stir_108 ?_))
          obtain ⟨y11, rfl, hw_y11⟩ := hw
          have hw := hw_y11
          refine r_callS (rest := []) (As := [.ref y11, .int ((i1 / (8 : Int32)) - (i1 / (8 : Int32)) / (10 : Int32) * (10 : Int32)), .int (((i1 / (8 : Int32)) / (16 : Int32)) - ((i1 / (8 : Int32)) / (16 : Int32)) / (2 : Int32) * (2 : Int32)), .int ((((i1 / (8 : Int32)) / (32 : Int32)) - ((i1 / (8 : Int32)) / (32 : Int32)) / (9 : Int32) * (9 : Int32)) - (1 : Int32)), .int (((i1 / (8 : Int32)) / (512 : Int32)) - ((i1 / (8 : Int32)) / (512 : Int32)) / (20 : Int32) * (20 : Int32)), .int (0 : Int32)]) C sg_X3_goSeal q2320 q2321 q90 q2322 rfl (Nat.le_of_ble_eq_true rfl) dX3_stir_109 rfl (Nat.le_refl _) (Nat.le_refl _) (c_X3_goSeal G l y11 ((i1 / (8 : Int32)) - (i1 / (8 : Int32)) / (10 : Int32) * (10 : Int32)) (((i1 / (8 : Int32)) / (16 : Int32)) - ((i1 / (8 : Int32)) / (16 : Int32)) / (2 : Int32) * (2 : Int32)) ((((i1 / (8 : Int32)) / (32 : Int32)) - ((i1 / (8 : Int32)) / (32 : Int32)) / (9 : Int32) * (9 : Int32)) - (1 : Int32)) (((i1 / (8 : Int32)) / (512 : Int32)) - ((i1 / (8 : Int32)) / (512 : Int32)) / (20 : Int32) * (20 : Int32)) (0 : Int32) h4 _ hw) (k_I (fun r12 h13 hw => ?_))
          have hJ : V h13 0 0 120 [] [.int (bI (if r12 < 0 then false else true))] := by
            refine r_istore_n (L' := [(3, .int (bI (if r12 < 0 then false else true)))]) C rfl (by decide) rfl dX3_stir_120 (r_goto (tgt := 227) C (by decide) dX3_stir_121 ?_)
            exact r_return C dX3_stir_227 (Nat.le_refl _) (Nat.le_refl _) ⟨rfl, hw⟩
          refine r_if_lt (tgt := 119) C (by decide) dX3_stir_112 (fun hc14 => ?_) (fun hc14 => ?_)
          · have hJ15 := hJ
            try simp only [if_pos hc14] at hJ15
            refine r_iconst (v := (0 : Int32)) C (by decide) dX3_stir_119 ?_
            exact r_sub C [] rfl hJ15
          · have hJ15 := hJ
            try simp only [if_neg hc14] at hJ15
            refine r_iconst (v := (1 : Int32)) C (by decide) dX3_stir_115 (r_goto (tgt := 120) C (by decide) dX3_stir_116 ?_)
            exact r_sub C [] rfl hJ15
    | 1, _, e9 =>
      have e9 : i1 - i1 / (8 : Int32) * (8 : Int32) = (1 : Int32) := e9.trans (by decide)
      have hw := hw.2.2.1 e9
      refine r_tableAt (k := (1 : Int32)) (off := 43) (tgt := 52) C e9 (by decide) (by decide) (by decide) (by decide) dX3_stir_9 ?_
      refine r_aload_n C rfl 1 rfl dX3_stir_52 ?_
      refine r_gfR (k := 2) C kX3 (by decide) (Or.inl q2157) (Or.inl rfl) dX3_stir_53 hw (fun v16 hw => ?_)
      refine r_iload_n C rfl 0 rfl dX3_stir_56 (r_bipush (v := (10 : Int32)) C (by decide) dX3_stir_57 (r_irem C (by decide) dX3_stir_59 ?_))
      obtain ⟨y17, rfl, hw_y17⟩ := hw
      have hw := hw_y17
      refine r_callS (rest := []) (As := [.ref y17, .int ((i1 / (8 : Int32)) - (i1 / (8 : Int32)) / (10 : Int32) * (10 : Int32))]) C sg_X3_hasDie q2291 q2292 q90 q2293 rfl (Nat.le_of_ble_eq_true rfl) dX3_stir_60 rfl (Nat.le_refl _) (Nat.le_refl _) (c_X3_hasDie G l y17 ((i1 / (8 : Int32)) - (i1 / (8 : Int32)) / (10 : Int32) * (10 : Int32)) h _ hw) (k_Z (fun r18 h19 hw => ?_))
      refine r_if_eq_b (tgt := 119) C (by decide) dX3_stir_63 (fun hc20 => ?_) (fun hc20 => ?_)
      · have hw := hw.1 hc20
        refine r_iconst (v := (0 : Int32)) C (by decide) dX3_stir_119 (r_istore_n (L' := [(3, .int (0 : Int32)), (2, .int (i1 / (8 : Int32))), (0, .ref a0), (1, .int i1)]) C rfl (by decide) rfl dX3_stir_120 (r_goto (tgt := 227) C (by decide) dX3_stir_121 ?_))
        exact r_return C dX3_stir_227 (Nat.le_refl _) (Nat.le_refl _) ⟨rfl, hw⟩
      · have hw := hw.2 hc20
        refine r_aload_n C rfl 1 rfl dX3_stir_66 ?_
        refine r_gfR (k := 2) C kX3 (by decide) (Or.inl q2157) (Or.inl rfl) dX3_stir_67 hw (fun v21 hw => ?_)
        refine r_iconst (v := (2 : Int32)) C (by decide) dX3_stir_70 ?_
        obtain ⟨y22, rfl, hw_y22⟩ := hw
        have hw := hw_y22
        refine r_iaload C dX3_stir_71 hw (fun v23 hw => ?_)
        refine r_bipush (v := (24 : Int32)) C (by decide) dX3_stir_72 ?_
        refine r_icmp_ge (tgt := 119) C (by decide) dX3_stir_74 (fun hc24 => ?_) (fun hc24 => ?_)
        · have hw := hw.1 hc24
          refine r_iconst (v := (0 : Int32)) C (by decide) dX3_stir_119 (r_istore_n (L' := [(3, .int (0 : Int32)), (2, .int (i1 / (8 : Int32))), (0, .ref a0), (1, .int i1)]) C rfl (by decide) rfl dX3_stir_120 (r_goto (tgt := 227) C (by decide) dX3_stir_121 ?_))
          exact r_return C dX3_stir_227 (Nat.le_refl _) (Nat.le_refl _) ⟨rfl, hw⟩
        · have hw := hw.2 hc24
          refine r_aload_n C rfl 1 rfl dX3_stir_77 ?_
          refine r_gfR (k := 2) C kX3 (by decide) (Or.inl q2157) (Or.inl rfl) dX3_stir_78 hw (fun v25 hw => ?_)
          refine r_iload_n C rfl 0 rfl dX3_stir_81 (r_bipush (v := (10 : Int32)) C (by decide) dX3_stir_82 (r_irem C (by decide) dX3_stir_84 (r_iload_n C rfl 0 rfl dX3_stir_85 (r_bipush (v := (16 : Int32)) C (by decide) dX3_stir_86 (r_idiv C (by decide) dX3_stir_88 ?_)))))
          refine r_iconst (v := (2 : Int32)) C (by decide) dX3_stir_89 (r_irem C (by decide) dX3_stir_90 (r_iload_n C rfl 0 rfl dX3_stir_91 (r_bipush (v := (32 : Int32)) C (by decide) dX3_stir_92 (r_idiv C (by decide) dX3_stir_94 (r_bipush (v := (9 : Int32)) C (by decide) dX3_stir_95 ?_)))))
          refine r_irem C (by decide) dX3_stir_97 (r_iconst (v := (1 : Int32)) C (by decide) dX3_stir_98 (r_isub C dX3_stir_99 (r_iload_n C rfl 0 rfl dX3_stir_100 (r_sipush (v := (512 : Int32)) C (by decide) dX3_stir_101 (r_idiv C (by decide) dX3_stir_104 ?_)))))
          refine r_bipush (v := (20 : Int32)) C (by decide) dX3_stir_105 (r_irem C (by decide) dX3_stir_107 (r_iconst (v := (0 : Int32)) C (by decide) dX3_stir_108 ?_))
          obtain ⟨y26, rfl, hw_y26⟩ := hw
          have hw := hw_y26
          refine r_callS (rest := []) (As := [.ref y26, .int ((i1 / (8 : Int32)) - (i1 / (8 : Int32)) / (10 : Int32) * (10 : Int32)), .int (((i1 / (8 : Int32)) / (16 : Int32)) - ((i1 / (8 : Int32)) / (16 : Int32)) / (2 : Int32) * (2 : Int32)), .int ((((i1 / (8 : Int32)) / (32 : Int32)) - ((i1 / (8 : Int32)) / (32 : Int32)) / (9 : Int32) * (9 : Int32)) - (1 : Int32)), .int (((i1 / (8 : Int32)) / (512 : Int32)) - ((i1 / (8 : Int32)) / (512 : Int32)) / (20 : Int32) * (20 : Int32)), .int (0 : Int32)]) C sg_X3_goSeal q2320 q2321 q90 q2322 rfl (Nat.le_of_ble_eq_true rfl) dX3_stir_109 rfl (Nat.le_refl _) (Nat.le_refl _) (c_X3_goSeal G l y26 ((i1 / (8 : Int32)) - (i1 / (8 : Int32)) / (10 : Int32) * (10 : Int32)) (((i1 / (8 : Int32)) / (16 : Int32)) - ((i1 / (8 : Int32)) / (16 : Int32)) / (2 : Int32) * (2 : Int32)) ((((i1 / (8 : Int32)) / (32 : Int32)) - ((i1 / (8 : Int32)) / (32 : Int32)) / (9 : Int32) * (9 : Int32)) - (1 : Int32)) (((i1 / (8 : Int32)) / (512 : Int32)) - ((i1 / (8 : Int32)) / (512 : Int32)) / (20 : Int32) * (20 : Int32)) (0 : Int32) h19 _ hw) (k_I (fun r27 h28 hw => ?_))
          have hJ : V h28 0 0 120 [] [.int (bI (if r27 < 0 then false else true))] := by
            refine r_istore_n (L' := [(3, .int (bI (if r27 < 0 then false else true)))]) C rfl (by decide) rfl dX3_stir_120 (r_goto (tgt := 227) C (by decide) dX3_stir_121 ?_)
            exact r_return C dX3_stir_227 (Nat.le_refl _) (Nat.le_refl _) ⟨rfl, hw⟩
          refine r_if_lt (tgt := 119) C (by decide) dX3_stir_112 (fun hc29 => ?_) (fun hc29 => ?_)
          · have hJ30 := hJ
            try simp only [if_pos hc29] at hJ30
            refine r_iconst (v := (0 : Int32)) C (by decide) dX3_stir_119 ?_
            exact r_sub C [] rfl hJ30
          · have hJ30 := hJ
            try simp only [if_neg hc29] at hJ30
            refine r_iconst (v := (1 : Int32)) C (by decide) dX3_stir_115 (r_goto (tgt := 120) C (by decide) dX3_stir_116 ?_)
            exact r_sub C [] rfl hJ30
    | 2, _, e9 =>
      have e9 : i1 - i1 / (8 : Int32) * (8 : Int32) = (2 : Int32) := e9.trans (by decide)
      have hw := hw.2.2.2.1 e9
      refine r_tableAt (k := (2 : Int32)) (off := 115) (tgt := 124) C e9 (by decide) (by decide) (by decide) (by decide) dX3_stir_9 ?_
      refine r_aload_n C rfl 1 rfl dX3_stir_124 (r_iload_n C rfl 0 rfl dX3_stir_125 (r_bipush (v := (10 : Int32)) C (by decide) dX3_stir_126 (r_irem C (by decide) dX3_stir_128 (r_sipush (v := (1000 : Int32)) C (by decide) dX3_stir_129 (r_iload_n C rfl 0 rfl dX3_stir_132 ?_)))))
      refine r_bipush (v := (16 : Int32)) C (by decide) dX3_stir_133 (r_idiv C (by decide) dX3_stir_135 (r_sipush (v := (1000 : Int32)) C (by decide) dX3_stir_136 (r_irem C (by decide) dX3_stir_139 (r_iadd C dX3_stir_140 ?_))))
      obtain ⟨hq31, hw⟩ := hw
      refine r_callV (ci := 2) (rest := []) (As := [.int ((i1 / (8 : Int32)) - (i1 / (8 : Int32)) / (10 : Int32) * (10 : Int32)), .int ((1000 : Int32) + (((i1 / (8 : Int32)) / (16 : Int32)) - ((i1 / (8 : Int32)) / (16 : Int32)) / (1000 : Int32) * (1000 : Int32)))]) C sg_X3_runCrack rfl rfl q2590 q2592 qs68 q90 q2593 rfl (Nat.le_of_ble_eq_true rfl) dX3_stir_141 rfl hq31 (Nat.le_refl _) (Nat.le_refl _) (c_X3_runCrack G l a0 ((i1 / (8 : Int32)) - (i1 / (8 : Int32)) / (10 : Int32) * (10 : Int32)) ((1000 : Int32) + (((i1 / (8 : Int32)) / (16 : Int32)) - ((i1 / (8 : Int32)) / (16 : Int32)) / (1000 : Int32) * (1000 : Int32))) h _ hw) (k_Z (fun r32 h33 hw => ?_))
      refine r_istore_n (L' := [(3, .int (bI r32)), (2, .int (i1 / (8 : Int32))), (0, .ref a0), (1, .int i1)]) C rfl (by decide) rfl dX3_stir_144 (r_goto (tgt := 227) C (by decide) dX3_stir_145 ?_)
      exact r_return C dX3_stir_227 (Nat.le_refl _) (Nat.le_refl _) ⟨rfl, hw⟩
    | 3, _, e9 =>
      have e9 : i1 - i1 / (8 : Int32) * (8 : Int32) = (3 : Int32) := e9.trans (by decide)
      have hw := hw.2.2.2.2.1 e9
      refine r_tableAt (k := (3 : Int32)) (off := 139) (tgt := 148) C e9 (by decide) (by decide) (by decide) (by decide) dX3_stir_9 ?_
      refine r_aload_n C rfl 1 rfl dX3_stir_148 (r_iload_n C rfl 0 rfl dX3_stir_149 (r_bipush (v := (24 : Int32)) C (by decide) dX3_stir_150 (r_irem C (by decide) dX3_stir_152 (r_iload_n C rfl 0 rfl dX3_stir_153 (r_bipush (v := (32 : Int32)) C (by decide) dX3_stir_154 ?_)))))
      refine r_idiv C (by decide) dX3_stir_156 (r_bipush (v := (16 : Int32)) C (by decide) dX3_stir_157 (r_irem C (by decide) dX3_stir_159 ?_))
      obtain ⟨hq34, hw⟩ := hw
      refine r_callV (ci := 2) (rest := []) (As := [.int ((i1 / (8 : Int32)) - (i1 / (8 : Int32)) / (24 : Int32) * (24 : Int32)), .int (((i1 / (8 : Int32)) / (32 : Int32)) - ((i1 / (8 : Int32)) / (32 : Int32)) / (16 : Int32) * (16 : Int32))]) C sg_X3_runShow rfl rfl q2606 q2608 qs72 q90 q2609 rfl (Nat.le_of_ble_eq_true rfl) dX3_stir_160 rfl hq34 (Nat.le_refl _) (Nat.le_refl _) (c_X3_runShow G l a0 ((i1 / (8 : Int32)) - (i1 / (8 : Int32)) / (24 : Int32) * (24 : Int32)) (((i1 / (8 : Int32)) / (32 : Int32)) - ((i1 / (8 : Int32)) / (32 : Int32)) / (16 : Int32) * (16 : Int32)) h _ hw) (k_Z (fun r35 h36 hw => ?_))
      refine r_istore_n (L' := [(3, .int (bI r35)), (2, .int (i1 / (8 : Int32))), (0, .ref a0), (1, .int i1)]) C rfl (by decide) rfl dX3_stir_163 (r_goto (tgt := 227) C (by decide) dX3_stir_164 ?_)
      exact r_return C dX3_stir_227 (Nat.le_refl _) (Nat.le_refl _) ⟨rfl, hw⟩
    | 4, _, e9 =>
      have e9 : i1 - i1 / (8 : Int32) * (8 : Int32) = (4 : Int32) := e9.trans (by decide)
      have hw := hw.2.2.2.2.2.1 e9
      refine r_tableAt (k := (4 : Int32)) (off := 158) (tgt := 167) C e9 (by decide) (by decide) (by decide) (by decide) dX3_stir_9 ?_
      refine r_aload_n C rfl 1 rfl dX3_stir_167 (r_iload_n C rfl 0 rfl dX3_stir_168 (r_bipush (v := (24 : Int32)) C (by decide) dX3_stir_169 (r_irem C (by decide) dX3_stir_171 (r_iload_n C rfl 0 rfl dX3_stir_172 (r_bipush (v := (32 : Int32)) C (by decide) dX3_stir_173 ?_)))))
      refine r_idiv C (by decide) dX3_stir_175 (r_bipush (v := (6 : Int32)) C (by decide) dX3_stir_176 (r_irem C (by decide) dX3_stir_178 ?_))
      obtain ⟨hq37, hw⟩ := hw
      refine r_callV (ci := 2) (rest := []) (As := [.int ((i1 / (8 : Int32)) - (i1 / (8 : Int32)) / (24 : Int32) * (24 : Int32)), .int (((i1 / (8 : Int32)) / (32 : Int32)) - ((i1 / (8 : Int32)) / (32 : Int32)) / (6 : Int32) * (6 : Int32))]) C sg_X3_runHang rfl rfl q2594 q2596 qs69 q90 q2597 rfl (Nat.le_of_ble_eq_true rfl) dX3_stir_179 rfl hq37 (Nat.le_refl _) (Nat.le_refl _) (c_X3_runHang G l a0 ((i1 / (8 : Int32)) - (i1 / (8 : Int32)) / (24 : Int32) * (24 : Int32)) (((i1 / (8 : Int32)) / (32 : Int32)) - ((i1 / (8 : Int32)) / (32 : Int32)) / (6 : Int32) * (6 : Int32)) h _ hw) (k_Z (fun r38 h39 hw => ?_))
      refine r_istore_n (L' := [(3, .int (bI r38)), (2, .int (i1 / (8 : Int32))), (0, .ref a0), (1, .int i1)]) C rfl (by decide) rfl dX3_stir_182 (r_goto (tgt := 227) C (by decide) dX3_stir_183 ?_)
      exact r_return C dX3_stir_227 (Nat.le_refl _) (Nat.le_refl _) ⟨rfl, hw⟩
    | 5, _, e9 =>
      have e9 : i1 - i1 / (8 : Int32) * (8 : Int32) = (5 : Int32) := e9.trans (by decide)
      have hw := hw.2.2.2.2.2.2.1 e9
      refine r_tableAt (k := (5 : Int32)) (off := 177) (tgt := 186) C e9 (by decide) (by decide) (by decide) (by decide) dX3_stir_9 ?_
      refine r_aload_n C rfl 1 rfl dX3_stir_186 (r_iload_n C rfl 0 rfl dX3_stir_187 (r_bipush (v := (24 : Int32)) C (by decide) dX3_stir_188 (r_irem C (by decide) dX3_stir_190 (r_iload_n C rfl 0 rfl dX3_stir_191 (r_bipush (v := (32 : Int32)) C (by decide) dX3_stir_192 ?_)))))
      refine r_idiv C (by decide) dX3_stir_194 (r_bipush (v := (6 : Int32)) C (by decide) dX3_stir_195 (r_irem C (by decide) dX3_stir_197 (r_iconst (v := (0 : Int32)) C (by decide) dX3_stir_198 ?_)))
      obtain ⟨hq40, hw⟩ := hw
      refine r_callV (ci := 2) (rest := []) (As := [.int ((i1 / (8 : Int32)) - (i1 / (8 : Int32)) / (24 : Int32) * (24 : Int32)), .int (((i1 / (8 : Int32)) / (32 : Int32)) - ((i1 / (8 : Int32)) / (32 : Int32)) / (6 : Int32) * (6 : Int32)), .int (0 : Int32)]) C sg_X3_runShelve rfl rfl q2602 q2604 qs71 q90 q2605 rfl (Nat.le_of_ble_eq_true rfl) dX3_stir_199 rfl hq40 (Nat.le_refl _) (Nat.le_refl _) (c_X3_runShelve G l a0 ((i1 / (8 : Int32)) - (i1 / (8 : Int32)) / (24 : Int32) * (24 : Int32)) (((i1 / (8 : Int32)) / (32 : Int32)) - ((i1 / (8 : Int32)) / (32 : Int32)) / (6 : Int32) * (6 : Int32)) (0 : Int32) h _ hw) (k_Z (fun r41 h42 hw => ?_))
      refine r_istore_n (L' := [(3, .int (bI r41)), (2, .int (i1 / (8 : Int32))), (0, .ref a0), (1, .int i1)]) C rfl (by decide) rfl dX3_stir_202 (r_goto (tgt := 227) C (by decide) dX3_stir_203 ?_)
      exact r_return C dX3_stir_227 (Nat.le_refl _) (Nat.le_refl _) ⟨rfl, hw⟩
    | 6, _, e9 =>
      have e9 : i1 - i1 / (8 : Int32) * (8 : Int32) = (6 : Int32) := e9.trans (by decide)
      have hw := hw.2.2.2.2.2.2.2 e9
      refine r_tableAt (k := (6 : Int32)) (off := 197) (tgt := 206) C e9 (by decide) (by decide) (by decide) (by decide) dX3_stir_9 ?_
      refine r_aload_n C rfl 1 rfl dX3_stir_206 (r_iload_n C rfl 0 rfl dX3_stir_207 (r_bipush (v := (24 : Int32)) C (by decide) dX3_stir_208 (r_irem C (by decide) dX3_stir_210 ?_)))
      obtain ⟨hq43, hw⟩ := hw
      refine r_callV (ci := 2) (rest := []) (As := [.int ((i1 / (8 : Int32)) - (i1 / (8 : Int32)) / (24 : Int32) * (24 : Int32))]) C sg_X3_runCut rfl rfl q2598 q2600 qs70 q90 q2601 rfl (Nat.le_of_ble_eq_true rfl) dX3_stir_211 rfl hq43 (Nat.le_refl _) (Nat.le_refl _) (c_X3_runCut G l a0 ((i1 / (8 : Int32)) - (i1 / (8 : Int32)) / (24 : Int32) * (24 : Int32)) h _ hw) (k_Z (fun r44 h45 hw => ?_))
      refine r_istore_n (L' := [(3, .int (bI r44)), (2, .int (i1 / (8 : Int32))), (0, .ref a0), (1, .int i1)]) C rfl (by decide) rfl dX3_stir_214 (r_goto (tgt := 227) C (by decide) dX3_stir_215 ?_)
      exact r_return C dX3_stir_227 (Nat.le_refl _) (Nat.le_refl _) ⟨rfl, hw⟩
    | k9 + 7, hk9, _ => exact absurd hk9 (by omega)
def S_X3_simulate_43 (Q : Int32 → Hp → Prop) (LA43 : Hp → Nat → Int32 → Int64 → Int32 → Prop) (h : Hp) (x0 : Nat) (x3 : Int32) (x4 : Int64) (x6 : Int32) : Prop :=
  (x3 ≤ x6 → gfR h x0 2 2 (fun v2 => nn v2 (fun y3 => rdI h y3 (2 : Int32) (fun v4 => gfR h x0 2 2 (fun v5 => nn v5 (fun y6 => hasC h x0 2 ∧ (w_X3_fakes x0 y6 h (fun r8 h9 => gfR h9 x0 2 2 (fun v10 => nn v10 (fun y11 => hasC h9 x0 2 ∧ (w_X3_bad x0 y11 h9 (fun r13 h14 => Q ((((1000 : Int32) * v4) + ((10 : Int32) * r8)) + r13) h14)))))))))))) ∧ (¬ x3 ≤ x6 → hasC h x0 2 ∧ (w_X3_stir x0 (((((x4 * (6364136223846793005 : Int64)) + (1442695040888963407 : Int64)).toUInt64 >>> ((33 : Int32).toInt64.toUInt64 &&& Int64.toUInt64 63)).toInt64).toInt32) h (fun h17 => LA43 h17 x0 x3 ((x4 * (6364136223846793005 : Int64)) + (1442695040888963407 : Int64)) (x6 + (1 : Int32)))))
def B_X3_simulate_43 (Q : Int32 → Hp → Prop) : Nat → Hp → Nat → Int32 → Int64 → Int32 → Prop
  | 0, _, _, _, _, _ => False
  | k + 1, h, x0, x3, x4, x6 => S_X3_simulate_43 Q (B_X3_simulate_43 Q k) h x0 x3 x4 x6
def w_X3_simulate (a0 : Nat) (j1 : Int64) (i3 : Int32) (h : Hp) (Q : Int32 → Hp → Prop) : Prop :=
  w_X3_in i3.toInt64 (1 : Int64) (60 : Int64) h (fun r18 h19 => hasC h19 a0 2 ∧ (w_X3_refused a0 (bI (if r18 = false then true else false)) h19 (fun r21 h22 => (r21 = false → gfR h22 a0 2 1 (fun v24 => gfR h22 a0 2 2 (fun v25 => nn v24 (fun y26 => nn v25 (fun y27 => w_X3_copy y26 y27 h22 (fun h29 => ∃ k9 : Nat, B_X3_simulate_43 Q k9 h29 a0 i3 j1 (0 : Int32))))))) ∧ (r21 = true → Q (0 : Int32) h22))))
theorem s_X3_simulate_43 {G : gT} {l : Launch} {V : Hp → Nat → Nat → Nat → List (Nat × Value) → List Value → Prop} {Q : Int32 → Hp → Prop} (C : Cx G l V cX3_simulate 7 RX3 12 273 0 0 (pI Q) none (some .int) [] false) (LA43 : Hp → Nat → Int32 → Int64 → Int32 → Prop) (hLA43 : ∀ (h : Hp) (x0 : Nat) (x3 : Int32) (x4 : Int64) (x6 : Int32), LA43 h x0 x3 x4 x6 → V h 0 0 43 [(0, .ref x0), (3, .int x3), (4, .long x4), (6, .int x6)] []) (h : Hp) (x0 : Nat) (x3 : Int32) (x4 : Int64) (x6 : Int32) (hw : S_X3_simulate_43 Q LA43 h x0 x3 x4 x6) : V h 0 0 43 [(0, .ref x0), (3, .int x3), (4, .long x4), (6, .int x6)] [] := by
  unfold S_X3_simulate_43 at hw
  refine r_iload C 3 rfl dX3_simulate_43 (r_iload_n C rfl 1 rfl dX3_simulate_45 ?_)
  refine r_icmp_ge (tgt := 77) C (by decide) dX3_simulate_46 (fun hc1 => ?_) (fun hc1 => ?_)
  · have hw := hw.1 hc1
    refine r_sipush (v := (1000 : Int32)) C (by decide) dX3_simulate_77 (r_aload_n C rfl 0 rfl dX3_simulate_80 ?_)
    refine r_gfR (k := 2) C kX3 (by decide) (Or.inl q2157) (Or.inl rfl) dX3_simulate_81 hw (fun v2 hw => ?_)
    refine r_iconst (v := (2 : Int32)) C (by decide) dX3_simulate_84 ?_
    obtain ⟨y3, rfl, hw_y3⟩ := hw
    have hw := hw_y3
    refine r_iaload C dX3_simulate_85 hw (fun v4 hw => ?_)
    refine r_imul C dX3_simulate_86 (r_bipush (v := (10 : Int32)) C (by decide) dX3_simulate_87 (r_aload_n C rfl 0 rfl dX3_simulate_89 (r_aload_n C rfl 0 rfl dX3_simulate_90 ?_)))
    refine r_gfR (k := 2) C kX3 (by decide) (Or.inl q2157) (Or.inl rfl) dX3_simulate_91 hw (fun v5 hw => ?_)
    obtain ⟨y6, rfl, hw_y6⟩ := hw
    have hw := hw_y6
    obtain ⟨hq7, hw⟩ := hw
    refine r_callV (ci := 2) (rest := [.int (10 : Int32), .int ((1000 : Int32) * v4)]) (As := [.ref y6]) C sg_X3_fakes rfl rfl q2335 q2337 qs53 q90 q2338 rfl (Nat.le_of_ble_eq_true rfl) dX3_simulate_94 rfl hq7 (Nat.le_refl _) (Nat.le_refl _) (c_X3_fakes G l x0 y6 h _ hw) (k_I (fun r8 h9 hw => ?_))
    refine r_imul C dX3_simulate_97 (r_iadd C dX3_simulate_98 (r_aload_n C rfl 0 rfl dX3_simulate_99 (r_aload_n C rfl 0 rfl dX3_simulate_100 ?_)))
    refine r_gfR (k := 2) C kX3 (by decide) (Or.inl q2157) (Or.inl rfl) dX3_simulate_101 hw (fun v10 hw => ?_)
    obtain ⟨y11, rfl, hw_y11⟩ := hw
    have hw := hw_y11
    obtain ⟨hq12, hw⟩ := hw
    refine r_callV (ci := 2) (rest := [.int (((1000 : Int32) * v4) + ((10 : Int32) * r8))]) (As := [.ref y11]) C sg_X3_bad rfl rfl q2386 q2388 qs59 q90 q2389 rfl (Nat.le_of_ble_eq_true rfl) dX3_simulate_104 rfl hq12 (Nat.le_refl _) (Nat.le_refl _) (c_X3_bad G l x0 y11 h9 _ hw) (k_I (fun r13 h14 hw => ?_))
    refine r_iadd C dX3_simulate_107 ?_
    exact r_ireturn C dX3_simulate_108 (Nat.le_refl _) (Nat.le_refl _) ⟨_, rfl, hw⟩
  · have hw := hw.2 hc1
    refine r_lload C 2 rfl dX3_simulate_49 (r_ldc2 (v := (6364136223846793005 : Int64)) C q2623 dX3_simulate_51 (r_lmul C dX3_simulate_54 (r_ldc2 (v := (1442695040888963407 : Int64)) C q2624 dX3_simulate_55 (r_ladd C dX3_simulate_58 (r_lstore (L' := [(4, .long ((x4 * (6364136223846793005 : Int64)) + (1442695040888963407 : Int64))), (0, .ref x0), (3, .int x3), (6, .int x6)]) C (by decide) rfl dX3_simulate_59 ?_)))))
    refine r_aload_n C rfl 1 rfl dX3_simulate_61 (r_lload C 0 rfl dX3_simulate_62 (r_bipush (v := (33 : Int32)) C (by decide) dX3_simulate_64 (r_lushr C dX3_simulate_66 (r_l2i C dX3_simulate_67 ?_))))
    obtain ⟨hq15, hw⟩ := hw
    refine r_callV (ci := 2) (rest := []) (As := [.int (((((x4 * (6364136223846793005 : Int64)) + (1442695040888963407 : Int64)).toUInt64 >>> ((33 : Int32).toInt64.toUInt64 &&& Int64.toUInt64 63)).toInt64).toInt32)]) C sg_X3_stir rfl rfl q2625 q2627 qs75 q90 q2628 rfl (Nat.le_of_ble_eq_true rfl) dX3_simulate_68 rfl hq15 (Nat.le_refl _) (Nat.le_refl _) (c_X3_stir G l x0 (((((x4 * (6364136223846793005 : Int64)) + (1442695040888963407 : Int64)).toUInt64 >>> ((33 : Int32).toInt64.toUInt64 &&& Int64.toUInt64 63)).toInt64).toInt32) h _ hw) (k_V (fun h17 hw => ?_))
    refine r_iinc (v := x6 + (1 : Int32)) (L' := [(6, .int (x6 + (1 : Int32))), (4, .long ((x4 * (6364136223846793005 : Int64)) + (1442695040888963407 : Int64))), (0, .ref x0), (3, .int x3)]) C (u := 3) rfl (by rfl) (by decide) rfl dX3_simulate_71 (r_goto (tgt := 43) C (by decide) dX3_simulate_74 ?_)
    exact r_sub C [2, 3, 1, 0] rfl (hLA43 _ _ _ _ _ hw)
theorem b_X3_simulate_43 {G : gT} {l : Launch} {V : Hp → Nat → Nat → Nat → List (Nat × Value) → List Value → Prop} {Q : Int32 → Hp → Prop} (C : Cx G l V cX3_simulate 7 RX3 12 273 0 0 (pI Q) none (some .int) [] false) : ∀ (k : Nat) (h : Hp) (x0 : Nat) (x3 : Int32) (x4 : Int64) (x6 : Int32), B_X3_simulate_43 Q k h x0 x3 x4 x6 → V h 0 0 43 [(0, .ref x0), (3, .int x3), (4, .long x4), (6, .int x6)] [] := by
  intro k
  induction k with
  | zero =>
    intro h x0 x3 x4 x6 hw
    exact hw.elim
  | succ k ih =>
    intro h x0 x3 x4 x6 hw
    exact s_X3_simulate_43 C _ (fun h x0 x3 x4 x6 hw => ih h x0 x3 x4 x6 hw) h x0 x3 x4 x6 hw
theorem sg_X3_simulate : ySg yX3_simulate 2 = true := by decide +kernel
theorem c_X3_simulate (G : gT) (l : Launch) (a0 : Nat) (j1 : Int64) (i3 : Int32) (h : Hp) (Q : Int32 → Hp → Prop) (hw : w_X3_simulate a0 j1 i3 h Q) : Ct G l yX3_simulate (ws_ yX3_simulate cX3_simulate 7 (some .int)) 12 273 0 0 [.ref a0, .long j1, .int i3] h (pI Q) := by
  refine Ct.of (own := RX3) false (by decide +kernel) rfl (show (_ : Nat) ≤ _ from Nat.le_of_ble_eq_true rfl) (fun z => by cases z) (fun V C => ?_)
  show V h 0 0 0 [(0, .ref a0), (1, .long j1), (3, .int i3)] []
  unfold w_X3_simulate at hw
  refine r_aload_n C rfl 0 rfl dX3_simulate_0 (r_iload_n C rfl 2 rfl dX3_simulate_1 (r_i2l C dX3_simulate_2 (r_lconst (v := (1 : Int64)) C (by decide) dX3_simulate_3 (r_ldc2 (v := (60 : Int64)) C q2622 dX3_simulate_4 ?_))))
  refine r_callS (rest := [.ref a0]) (As := [.long i3.toInt64, .long (1 : Int64), .long (60 : Int64)]) C sg_X3_in q2219 q2220 q90 q2221 rfl (Nat.le_of_ble_eq_true rfl) dX3_simulate_7 rfl (Nat.le_refl _) (Nat.le_refl _) (c_X3_in G l i3.toInt64 (1 : Int64) (60 : Int64) h _ hw) (k_Z (fun r18 h19 hw => ?_))
  have hJ : V h19 0 0 18 [(0, .ref a0), (1, .long j1), (3, .int i3)] [.int (bI (if r18 = false then true else false)), .ref a0] := by
    obtain ⟨hq20, hw⟩ := hw
    refine r_callV (ci := 2) (rest := []) (As := [.int (bI (if r18 = false then true else false))]) C sg_X3_refused rfl rfl q2222 q2224 qs38 q90 q2225 rfl (Nat.le_of_ble_eq_true rfl) dX3_simulate_18 rfl hq20 (Nat.le_refl _) (Nat.le_refl _) (c_X3_refused G l a0 (bI (if r18 = false then true else false)) h19 _ hw) (k_Z (fun r21 h22 hw => ?_))
    refine r_if_eq_b (tgt := 26) C (by decide) dX3_simulate_21 (fun hc23 => ?_) (fun hc23 => ?_)
    · have hw := hw.1 hc23
      refine r_aload_n C rfl 0 rfl dX3_simulate_26 ?_
      refine r_gfR (k := 1) C kX3 (by decide) (Or.inl q2156) (Or.inl rfl) dX3_simulate_27 hw (fun v24 hw => ?_)
      refine r_aload_n C rfl 0 rfl dX3_simulate_30 ?_
      refine r_gfR (k := 2) C kX3 (by decide) (Or.inl q2157) (Or.inl rfl) dX3_simulate_31 hw (fun v25 hw => ?_)
      obtain ⟨y26, rfl, hw_y26⟩ := hw
      have hw := hw_y26
      obtain ⟨y27, rfl, hw_y27⟩ := hw
      have hw := hw_y27
      refine r_callS (rest := []) (As := [.ref y26, .ref y27]) C sg_X3_copy q2327 q2328 q90 q2329 rfl (Nat.le_of_ble_eq_true rfl) dX3_simulate_34 rfl (Nat.le_refl _) (Nat.le_refl _) (c_X3_copy G l y26 y27 h22 _ hw) (k_V (fun h29 hw => ?_))
      refine r_lload_n C rfl 1 rfl dX3_simulate_37 (r_lstore (L' := [(4, .long j1), (0, .ref a0), (1, .long j1), (3, .int i3)]) C (by decide) rfl dX3_simulate_38 (r_iconst (v := (0 : Int32)) C (by decide) dX3_simulate_40 (r_istore (L' := [(6, .int (0 : Int32)), (4, .long j1), (0, .ref a0), (1, .long j1), (3, .int i3)]) C (by decide) rfl dX3_simulate_41 ?_)))
      obtain ⟨k9, hw⟩ := hw
      exact r_sub C [2, 4, 1, 0] rfl (b_X3_simulate_43 C _ _ _ _ _ _ hw)
    · have hw := hw.2 hc23
      refine r_iconst (v := (0 : Int32)) C (by decide) dX3_simulate_24 ?_
      exact r_ireturn C dX3_simulate_25 (Nat.le_refl _) (Nat.le_refl _) ⟨_, rfl, hw⟩
  refine r_if_eq_b (tgt := 17) C (by decide) dX3_simulate_10 (fun hc30 => ?_) (fun hc30 => ?_)
  · have hJ31 := hJ
    try simp only [if_pos hc30] at hJ31
    refine r_iconst (v := (1 : Int32)) C (by decide) dX3_simulate_17 ?_
    exact r_sub C [0, 1, 2] rfl hJ31
  · have hJ31 := hJ
    try simp only [if_neg (show ¬ r18 = false from by rw [hc30]; decide)] at hJ31
    refine r_iconst (v := (0 : Int32)) C (by decide) dX3_simulate_13 (r_goto (tgt := 18) C (by decide) dX3_simulate_14 ?_)
    exact r_sub C [0, 1, 2] rfl hJ31
def S_X3_save_26 (Q : Int32 → Hp → Prop) (LA26 : Hp → Nat → Int32 → Int32 → Prop) (h : Hp) (x0 : Nat) (x1 : Int32) (x2 : Int32) : Prop :=
  ((291 : Int32) ≤ x2 → gfR h x0 2 7 (fun v2 => nn v2 (fun y4 => wrZ h y4 x1 true (fun h3 => gfR h3 x0 2 1 (fun v5 => nn v5 (fun y6 => rdI h3 y6 (2 : Int32) (fun v7 => Q v7 h3))))))) ∧ (¬ (291 : Int32) ≤ x2 → gfR h x0 2 6 (fun v8 => gfR h x0 2 1 (fun v9 => nn v9 (fun y10 => rdI h y10 x2 (fun v11 => nn v8 (fun y13 => wrI h y13 (((291 : Int32) * x1) + x2) v11 (fun h12 => LA26 h12 x0 x1 (x2 + (1 : Int32)))))))))
def B_X3_save_26 (Q : Int32 → Hp → Prop) : Nat → Hp → Nat → Int32 → Int32 → Prop
  | 0, _, _, _, _ => False
  | k + 1, h, x0, x1, x2 => S_X3_save_26 Q (B_X3_save_26 Q k) h x0 x1 x2
def w_X3_save (a0 : Nat) (i1 : Int32) (h : Hp) (Q : Int32 → Hp → Prop) : Prop :=
  w_X3_in i1.toInt64 (0 : Int64) (1 : Int64) h (fun r14 h15 => hasC h15 a0 2 ∧ (w_X3_refused a0 (bI (if r14 = false then true else false)) h15 (fun r17 h18 => (r17 = false → ∃ k9 : Nat, B_X3_save_26 Q k9 h18 a0 i1 (0 : Int32)) ∧ (r17 = true → Q (0 : Int32) h18))))
theorem s_X3_save_26 {G : gT} {l : Launch} {V : Hp → Nat → Nat → Nat → List (Nat × Value) → List Value → Prop} {Q : Int32 → Hp → Prop} (C : Cx G l V cX3_save 3 RX3 2 37 0 0 (pI Q) none (some .int) [] false) (LA26 : Hp → Nat → Int32 → Int32 → Prop) (hLA26 : ∀ (h : Hp) (x0 : Nat) (x1 : Int32) (x2 : Int32), LA26 h x0 x1 x2 → V h 0 0 26 [(0, .ref x0), (1, .int x1), (2, .int x2)] []) (h : Hp) (x0 : Nat) (x1 : Int32) (x2 : Int32) (hw : S_X3_save_26 Q LA26 h x0 x1 x2) : V h 0 0 26 [(0, .ref x0), (1, .int x1), (2, .int x2)] [] := by
  unfold S_X3_save_26 at hw
  refine r_iload_n C rfl 2 rfl dX3_save_26 (r_sipush (v := (291 : Int32)) C (by decide) dX3_save_27 ?_)
  refine r_icmp_ge (tgt := 57) C (by decide) dX3_save_30 (fun hc1 => ?_) (fun hc1 => ?_)
  · have hw := hw.1 hc1
    refine r_aload_n C rfl 0 rfl dX3_save_57 ?_
    refine r_gfR (k := 7) C kX3 (by decide) (Or.inl q2162) (Or.inl rfl) dX3_save_58 hw (fun v2 hw => ?_)
    refine r_iload_n C rfl 1 rfl dX3_save_61 (r_iconst (v := (1 : Int32)) C (by decide) dX3_save_62 ?_)
    obtain ⟨y4, rfl, hw_y4⟩ := hw
    have hw := hw_y4
    refine r_bastore (x := true) C dX3_save_63 hw (fun h3 hw => ?_)
    refine r_aload_n C rfl 0 rfl dX3_save_64 ?_
    refine r_gfR (k := 1) C kX3 (by decide) (Or.inl q2156) (Or.inl rfl) dX3_save_65 hw (fun v5 hw => ?_)
    refine r_iconst (v := (2 : Int32)) C (by decide) dX3_save_68 ?_
    obtain ⟨y6, rfl, hw_y6⟩ := hw
    have hw := hw_y6
    refine r_iaload C dX3_save_69 hw (fun v7 hw => ?_)
    exact r_ireturn C dX3_save_70 (Nat.le_refl _) (Nat.le_refl _) ⟨_, rfl, hw⟩
  · have hw := hw.2 hc1
    refine r_aload_n C rfl 0 rfl dX3_save_33 ?_
    refine r_gfR (k := 6) C kX3 (by decide) (Or.inl q2161) (Or.inl rfl) dX3_save_34 hw (fun v8 hw => ?_)
    refine r_sipush (v := (291 : Int32)) C (by decide) dX3_save_37 (r_iload_n C rfl 1 rfl dX3_save_40 (r_imul C dX3_save_41 (r_iload_n C rfl 2 rfl dX3_save_42 (r_iadd C dX3_save_43 (r_aload_n C rfl 0 rfl dX3_save_44 ?_)))))
    refine r_gfR (k := 1) C kX3 (by decide) (Or.inl q2156) (Or.inl rfl) dX3_save_45 hw (fun v9 hw => ?_)
    refine r_iload_n C rfl 2 rfl dX3_save_48 ?_
    obtain ⟨y10, rfl, hw_y10⟩ := hw
    have hw := hw_y10
    refine r_iaload C dX3_save_49 hw (fun v11 hw => ?_)
    obtain ⟨y13, rfl, hw_y13⟩ := hw
    have hw := hw_y13
    refine r_iastore C dX3_save_50 hw (fun h12 hw => ?_)
    refine r_iinc (v := x2 + (1 : Int32)) (L' := [(2, .int (x2 + (1 : Int32))), (0, .ref x0), (1, .int x1)]) C (u := 2) rfl (by rfl) (by decide) rfl dX3_save_51 (r_goto (tgt := 26) C (by decide) dX3_save_54 ?_)
    exact r_sub C [1, 2, 0] rfl (hLA26 _ _ _ _ hw)
theorem b_X3_save_26 {G : gT} {l : Launch} {V : Hp → Nat → Nat → Nat → List (Nat × Value) → List Value → Prop} {Q : Int32 → Hp → Prop} (C : Cx G l V cX3_save 3 RX3 2 37 0 0 (pI Q) none (some .int) [] false) : ∀ (k : Nat) (h : Hp) (x0 : Nat) (x1 : Int32) (x2 : Int32), B_X3_save_26 Q k h x0 x1 x2 → V h 0 0 26 [(0, .ref x0), (1, .int x1), (2, .int x2)] [] := by
  intro k
  induction k with
  | zero =>
    intro h x0 x1 x2 hw
    exact hw.elim
  | succ k ih =>
    intro h x0 x1 x2 hw
    exact s_X3_save_26 C _ (fun h x0 x1 x2 hw => ih h x0 x1 x2 hw) h x0 x1 x2 hw
theorem sg_X3_save : ySg yX3_save 1 = true := by decide +kernel
theorem c_X3_save (G : gT) (l : Launch) (a0 : Nat) (i1 : Int32) (h : Hp) (Q : Int32 → Hp → Prop) (hw : w_X3_save a0 i1 h Q) : Ct G l yX3_save (ws_ yX3_save cX3_save 3 (some .int)) 2 37 0 0 [.ref a0, .int i1] h (pI Q) := by
  refine Ct.of (own := RX3) false (by decide +kernel) rfl (show (_ : Nat) ≤ _ from Nat.le_of_ble_eq_true rfl) (fun z => by cases z) (fun V C => ?_)
  show V h 0 0 0 [(0, .ref a0), (1, .int i1)] []
  unfold w_X3_save at hw
  refine r_aload_n C rfl 0 rfl dX3_save_0 (r_iload_n C rfl 1 rfl dX3_save_1 (r_i2l C dX3_save_2 (r_lconst (v := (0 : Int64)) C (by decide) dX3_save_3 (r_lconst (v := (1 : Int64)) C (by decide) dX3_save_4 ?_))))
  refine r_callS (rest := [.ref a0]) (As := [.long i1.toInt64, .long (0 : Int64), .long (1 : Int64)]) C sg_X3_in q2219 q2220 q90 q2221 rfl (Nat.le_of_ble_eq_true rfl) dX3_save_5 rfl (Nat.le_refl _) (Nat.le_refl _) (c_X3_in G l i1.toInt64 (0 : Int64) (1 : Int64) h _ hw) (k_Z (fun r14 h15 hw => ?_))
  have hJ : V h15 0 0 16 [(0, .ref a0), (1, .int i1)] [.int (bI (if r14 = false then true else false)), .ref a0] := by
    obtain ⟨hq16, hw⟩ := hw
    refine r_callV (ci := 2) (rest := []) (As := [.int (bI (if r14 = false then true else false))]) C sg_X3_refused rfl rfl q2222 q2224 qs38 q90 q2225 rfl (Nat.le_of_ble_eq_true rfl) dX3_save_16 rfl hq16 (Nat.le_refl _) (Nat.le_refl _) (c_X3_refused G l a0 (bI (if r14 = false then true else false)) h15 _ hw) (k_Z (fun r17 h18 hw => ?_))
    refine r_if_eq_b (tgt := 24) C (by decide) dX3_save_19 (fun hc19 => ?_) (fun hc19 => ?_)
    · have hw := hw.1 hc19
      refine r_iconst (v := (0 : Int32)) C (by decide) dX3_save_24 (r_istore_n (L' := [(2, .int (0 : Int32)), (0, .ref a0), (1, .int i1)]) C rfl (by decide) rfl dX3_save_25 ?_)
      obtain ⟨k9, hw⟩ := hw
      exact r_sub C [1, 2, 0] rfl (b_X3_save_26 C _ _ _ _ _ hw)
    · have hw := hw.2 hc19
      refine r_iconst (v := (0 : Int32)) C (by decide) dX3_save_22 ?_
      exact r_ireturn C dX3_save_23 (Nat.le_refl _) (Nat.le_refl _) ⟨_, rfl, hw⟩
  refine r_if_eq_b (tgt := 15) C (by decide) dX3_save_8 (fun hc20 => ?_) (fun hc20 => ?_)
  · have hJ21 := hJ
    try simp only [if_pos hc20] at hJ21
    refine r_iconst (v := (1 : Int32)) C (by decide) dX3_save_15 ?_
    exact r_sub C [0, 1] rfl hJ21
  · have hJ21 := hJ
    try simp only [if_neg (show ¬ r14 = false from by rw [hc20]; decide)] at hJ21
    refine r_iconst (v := (0 : Int32)) C (by decide) dX3_save_11 (r_goto (tgt := 16) C (by decide) dX3_save_12 ?_)
    exact r_sub C [0, 1] rfl hJ21
def S_X3_restore_39 (Q : Int32 → Hp → Prop) (LA39 : Hp → Nat → Int32 → Int32 → Prop) (h : Hp) (x0 : Nat) (x1 : Int32) (x2 : Int32) : Prop :=
  ((291 : Int32) ≤ x2 → pf h x0 2 5 (.int (0 : Int32)) (fun h6 => gfR h6 x0 2 1 (fun v7 => nn v7 (fun y8 => rdI h6 y8 (2 : Int32) (fun v9 => Q v9 h6))))) ∧ (¬ (291 : Int32) ≤ x2 → gfR h x0 2 1 (fun v10 => gfR h x0 2 6 (fun v11 => nn v11 (fun y12 => rdI h y12 (((291 : Int32) * x1) + x2) (fun v13 => nn v10 (fun y15 => wrI h y15 x2 v13 (fun h14 => LA39 h14 x0 x1 (x2 + (1 : Int32)))))))))
def B_X3_restore_39 (Q : Int32 → Hp → Prop) : Nat → Hp → Nat → Int32 → Int32 → Prop
  | 0, _, _, _, _ => False
  | k + 1, h, x0, x1, x2 => S_X3_restore_39 Q (B_X3_restore_39 Q k) h x0 x1 x2
def B_X3_restore_29 (Q : Int32 → Hp → Prop) (h : Hp) (x0 : Nat) (x1 : Int32) (s0 : Nat) (s1 : Int32) : Prop :=
  hasC h s0 2 ∧ (w_X3_refused s0 s1 h (fun r2 h3 => (r2 = false → ∃ k9 : Nat, B_X3_restore_39 Q k9 h3 x0 x1 (0 : Int32)) ∧ (r2 = true → Q (0 : Int32) h3)))
def w_X3_restore (a0 : Nat) (i1 : Int32) (h : Hp) (Q : Int32 → Hp → Prop) : Prop :=
  w_X3_in i1.toInt64 (0 : Int64) (1 : Int64) h (fun r16 h17 => (r16 = true → gfR h17 a0 2 7 (fun v19 => nn v19 (fun y20 => rdZ h17 y20 i1 (fun v21 => B_X3_restore_29 Q h17 a0 i1 a0 (if v21 = true then (0 : Int32) else (2 : Int32)))))) ∧ (r16 = false → B_X3_restore_29 Q h17 a0 i1 a0 (1 : Int32)))
theorem s_X3_restore_39 {G : gT} {l : Launch} {V : Hp → Nat → Nat → Nat → List (Nat × Value) → List Value → Prop} {Q : Int32 → Hp → Prop} (C : Cx G l V cX3_restore 3 RX3 2 37 0 0 (pI Q) none (some .int) [] false) (LA39 : Hp → Nat → Int32 → Int32 → Prop) (hLA39 : ∀ (h : Hp) (x0 : Nat) (x1 : Int32) (x2 : Int32), LA39 h x0 x1 x2 → V h 0 0 39 [(0, .ref x0), (1, .int x1), (2, .int x2)] []) (h : Hp) (x0 : Nat) (x1 : Int32) (x2 : Int32) (hw : S_X3_restore_39 Q LA39 h x0 x1 x2) : V h 0 0 39 [(0, .ref x0), (1, .int x1), (2, .int x2)] [] := by
  unfold S_X3_restore_39 at hw
  refine r_iload_n C rfl 2 rfl dX3_restore_39 (r_sipush (v := (291 : Int32)) C (by decide) dX3_restore_40 ?_)
  refine r_icmp_ge (tgt := 70) C (by decide) dX3_restore_43 (fun hc5 => ?_) (fun hc5 => ?_)
  · have hw := hw.1 hc5
    refine r_aload_n C rfl 0 rfl dX3_restore_70 (r_iconst (v := (0 : Int32)) C (by decide) dX3_restore_71 ?_)
    refine r_pf (k := 5) (v := .int (0 : Int32)) C kX3 (by decide) (Or.inl q2160) (Or.inl rfl) (Or.inl rfl) rfl rfl dX3_restore_72 hw (fun h6 hw => ?_)
    refine r_aload_n C rfl 0 rfl dX3_restore_75 ?_
    refine r_gfR (k := 1) C kX3 (by decide) (Or.inl q2156) (Or.inl rfl) dX3_restore_76 hw (fun v7 hw => ?_)
    refine r_iconst (v := (2 : Int32)) C (by decide) dX3_restore_79 ?_
    obtain ⟨y8, rfl, hw_y8⟩ := hw
    have hw := hw_y8
    refine r_iaload C dX3_restore_80 hw (fun v9 hw => ?_)
    exact r_ireturn C dX3_restore_81 (Nat.le_refl _) (Nat.le_refl _) ⟨_, rfl, hw⟩
  · have hw := hw.2 hc5
    refine r_aload_n C rfl 0 rfl dX3_restore_46 ?_
    refine r_gfR (k := 1) C kX3 (by decide) (Or.inl q2156) (Or.inl rfl) dX3_restore_47 hw (fun v10 hw => ?_)
    refine r_iload_n C rfl 2 rfl dX3_restore_50 (r_aload_n C rfl 0 rfl dX3_restore_51 ?_)
    refine r_gfR (k := 6) C kX3 (by decide) (Or.inl q2161) (Or.inl rfl) dX3_restore_52 hw (fun v11 hw => ?_)
    refine r_sipush (v := (291 : Int32)) C (by decide) dX3_restore_55 (r_iload_n C rfl 1 rfl dX3_restore_58 (r_imul C dX3_restore_59 (r_iload_n C rfl 2 rfl dX3_restore_60 (r_iadd C dX3_restore_61 ?_))))
    obtain ⟨y12, rfl, hw_y12⟩ := hw
    have hw := hw_y12
    refine r_iaload C dX3_restore_62 hw (fun v13 hw => ?_)
    obtain ⟨y15, rfl, hw_y15⟩ := hw
    have hw := hw_y15
    refine r_iastore C dX3_restore_63 hw (fun h14 hw => ?_)
    refine r_iinc (v := x2 + (1 : Int32)) (L' := [(2, .int (x2 + (1 : Int32))), (0, .ref x0), (1, .int x1)]) C (u := 2) rfl (by rfl) (by decide) rfl dX3_restore_64 (r_goto (tgt := 39) C (by decide) dX3_restore_67 ?_)
    exact r_sub C [1, 2, 0] rfl (hLA39 _ _ _ _ hw)
theorem b_X3_restore_39 {G : gT} {l : Launch} {V : Hp → Nat → Nat → Nat → List (Nat × Value) → List Value → Prop} {Q : Int32 → Hp → Prop} (C : Cx G l V cX3_restore 3 RX3 2 37 0 0 (pI Q) none (some .int) [] false) : ∀ (k : Nat) (h : Hp) (x0 : Nat) (x1 : Int32) (x2 : Int32), B_X3_restore_39 Q k h x0 x1 x2 → V h 0 0 39 [(0, .ref x0), (1, .int x1), (2, .int x2)] [] := by
  intro k
  induction k with
  | zero =>
    intro h x0 x1 x2 hw
    exact hw.elim
  | succ k ih =>
    intro h x0 x1 x2 hw
    exact s_X3_restore_39 C _ (fun h x0 x1 x2 hw => ih h x0 x1 x2 hw) h x0 x1 x2 hw
theorem b_X3_restore_29 {G : gT} {l : Launch} {V : Hp → Nat → Nat → Nat → List (Nat × Value) → List Value → Prop} {Q : Int32 → Hp → Prop} (C : Cx G l V cX3_restore 3 RX3 2 37 0 0 (pI Q) none (some .int) [] false) (h : Hp) (x0 : Nat) (x1 : Int32) (s0 : Nat) (s1 : Int32) (hw : B_X3_restore_29 Q h x0 x1 s0 s1) : V h 0 0 29 [(0, .ref x0), (1, .int x1)] [.int s1, .ref s0] := by
  unfold B_X3_restore_29 at hw
  obtain ⟨hq1, hw⟩ := hw
  refine r_callV (ci := 2) (rest := []) (As := [.int s1]) C sg_X3_refused rfl rfl q2222 q2224 qs38 q90 q2225 rfl (Nat.le_of_ble_eq_true rfl) dX3_restore_29 rfl hq1 (Nat.le_refl _) (Nat.le_refl _) (c_X3_refused G l s0 s1 h _ hw) (k_Z (fun r2 h3 hw => ?_))
  refine r_if_eq_b (tgt := 37) C (by decide) dX3_restore_32 (fun hc4 => ?_) (fun hc4 => ?_)
  · have hw := hw.1 hc4
    refine r_iconst (v := (0 : Int32)) C (by decide) dX3_restore_37 (r_istore_n (L' := [(2, .int (0 : Int32)), (0, .ref x0), (1, .int x1)]) C rfl (by decide) rfl dX3_restore_38 ?_)
    obtain ⟨k9, hw⟩ := hw
    exact r_sub C [1, 2, 0] rfl (b_X3_restore_39 C _ _ _ _ _ hw)
  · have hw := hw.2 hc4
    refine r_iconst (v := (0 : Int32)) C (by decide) dX3_restore_35 ?_
    exact r_ireturn C dX3_restore_36 (Nat.le_refl _) (Nat.le_refl _) ⟨_, rfl, hw⟩
theorem sg_X3_restore : ySg yX3_restore 1 = true := by decide +kernel
theorem c_X3_restore (G : gT) (l : Launch) (a0 : Nat) (i1 : Int32) (h : Hp) (Q : Int32 → Hp → Prop) (hw : w_X3_restore a0 i1 h Q) : Ct G l yX3_restore (ws_ yX3_restore cX3_restore 3 (some .int)) 2 37 0 0 [.ref a0, .int i1] h (pI Q) := by
  refine Ct.of (own := RX3) false (by decide +kernel) rfl (show (_ : Nat) ≤ _ from Nat.le_of_ble_eq_true rfl) (fun z => by cases z) (fun V C => ?_)
  show V h 0 0 0 [(0, .ref a0), (1, .int i1)] []
  unfold w_X3_restore at hw
  refine r_aload_n C rfl 0 rfl dX3_restore_0 (r_iload_n C rfl 1 rfl dX3_restore_1 (r_i2l C dX3_restore_2 (r_lconst (v := (0 : Int64)) C (by decide) dX3_restore_3 (r_lconst (v := (1 : Int64)) C (by decide) dX3_restore_4 ?_))))
  refine r_callS (rest := [.ref a0]) (As := [.long i1.toInt64, .long (0 : Int64), .long (1 : Int64)]) C sg_X3_in q2219 q2220 q90 q2221 rfl (Nat.le_of_ble_eq_true rfl) dX3_restore_5 rfl (Nat.le_refl _) (Nat.le_refl _) (c_X3_in G l i1.toInt64 (0 : Int64) (1 : Int64) h _ hw) (k_Z (fun r16 h17 hw => ?_))
  refine r_if_ne_b (tgt := 15) C (by decide) dX3_restore_8 (fun hc18 => ?_) (fun hc18 => ?_)
  · have hw := hw.1 hc18
    refine r_aload_n C rfl 0 rfl dX3_restore_15 ?_
    refine r_gfR (k := 7) C kX3 (by decide) (Or.inl q2162) (Or.inl rfl) dX3_restore_16 hw (fun v19 hw => ?_)
    refine r_iload_n C rfl 1 rfl dX3_restore_19 ?_
    obtain ⟨y20, rfl, hw_y20⟩ := hw
    have hw := hw_y20
    refine r_baload C dX3_restore_20 hw (fun v21 hw => ?_)
    have hJ : V h17 0 0 29 [(0, .ref a0), (1, .int i1)] [.int (if v21 = true then (0 : Int32) else (2 : Int32)), .ref a0] := by
      exact r_sub C [0, 1] rfl (b_X3_restore_29 C _ _ _ _ _ hw)
    refine r_if_ne_b (tgt := 28) C (by decide) dX3_restore_21 (fun hc22 => ?_) (fun hc22 => ?_)
    · have hJ23 := hJ
      try simp only [if_pos hc22] at hJ23
      refine r_iconst (v := (0 : Int32)) C (by decide) dX3_restore_28 ?_
      exact r_sub C [0, 1] rfl hJ23
    · have hJ23 := hJ
      try simp only [if_neg (show ¬ v21 = true from by rw [hc22]; decide)] at hJ23
      refine r_iconst (v := (2 : Int32)) C (by decide) dX3_restore_24 (r_goto (tgt := 29) C (by decide) dX3_restore_25 ?_)
      exact r_sub C [0, 1] rfl hJ23
  · have hw := hw.2 hc18
    refine r_iconst (v := (1 : Int32)) C (by decide) dX3_restore_11 (r_goto (tgt := 29) C (by decide) dX3_restore_12 ?_)
    exact r_sub C [0, 1] rfl (b_X3_restore_29 C _ _ _ _ _ hw)
