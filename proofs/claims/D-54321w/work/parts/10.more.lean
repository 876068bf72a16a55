set_option maxRecDepth 100000
section
variable {G : gT} {l : Launch} {V : Hp → Nat → Nat → Nat → List (Nat × Value) → List Value → Prop} {cc : ByteArray} {nL : Nat} {own : String} {fr lo mc ms : Nat} {Q : Option Value → Hp → Prop} {X : Option (String → Hp → Prop)} {rt : Option FieldType} {hh : List (Nat × Nat × Nat × Nat)} {ini : Bool}
variable {h : Hp} {cn n pc : Nat} {L : List (Nat × Value)} {rest : List Value}
theorem k_I {Q' : Int32 → Hp → Prop} (k : ∀ (r : Int32) (h' : Hp), Q' r h' → V h' cn n pc L (.int r :: rest)) : ∀ (v : Option Value) (h' : Hp), pI Q' v h' → V h' cn n pc L (v.toList ++ rest) := by
  rintro v h' ⟨r, rfl, hq⟩
  exact k r h' hq
theorem k_Z {Q' : Bool → Hp → Prop} (k : ∀ (r : Bool) (h' : Hp), Q' r h' → V h' cn n pc L (.int (bI r) :: rest)) : ∀ (v : Option Value) (h' : Hp), pZ Q' v h' → V h' cn n pc L (v.toList ++ rest) := by
  rintro v h' ⟨r, rfl, hq⟩
  exact k r h' hq
theorem k_J {Q' : Int64 → Hp → Prop} (k : ∀ (r : Int64) (h' : Hp), Q' r h' → V h' cn n pc L (.long r :: rest)) : ∀ (v : Option Value) (h' : Hp), pJ Q' v h' → V h' cn n pc L (v.toList ++ rest) := by
  rintro v h' ⟨r, rfl, hq⟩
  exact k r h' hq
theorem k_R {Q' : Option Nat → Hp → Prop} (k : ∀ (r : Option Nat) (h' : Hp), Q' r h' → V h' cn n pc L (va_rf r :: rest)) : ∀ (v : Option Value) (h' : Hp), pR Q' v h' → V h' cn n pc L (v.toList ++ rest) := by
  rintro v h' ⟨r, rfl, hq⟩
  exact k r h' hq
theorem k_V {Q' : Hp → Prop} (k : ∀ (h' : Hp), Q' h' → V h' cn n pc L rest) : ∀ (v : Option Value) (h' : Hp), pV Q' v h' → V h' cn n pc L (v.toList ++ rest) := by
  rintro v h' ⟨rfl, hq⟩
  exact k h' hq
theorem st_C {X0 : String → Hp → Prop} (C : Cx G l V cc nL own fr lo mc ms Q (some X0) rt hh ini) : l.stackTraces = false := by
  obtain ⟨p, e, s, m, args, below, meth, c, hV, hx, hb, hml, hown, hts, hlk, hrt, hT, hZ, hz, hex, hini, hst⟩ := C
  exact hst rfl
/-- a cast of an int array to its class -/
theorem r_castI (C : Cx G l V cc nL own fr lo mc ms Q X rt hh ini) {ix a N : Nat} {f : Nat → Int32} (w1 : Cond.classLink own ix "[I" ∈ lw_all) (d : decode cc pc = .ok (.checkcast ix, 3)) (hw : h a = some (aI N f)) (kk : V h cn n (pc + 3) L (.ref a :: rest)) : V h cn n pc L (.ref a :: rest) := by
  obtain ⟨p, e, s, m, args, below, meth, c, rfl, hx, hb, hml, hown, hts, hlk, hrt, hT, hZ, hz, hex, hini, hst⟩ := C
  intro H locs ls K hl'
  obtain ⟨g1, g2, g3⟩ := K.1.arr hw
  exact va_castA hx hb hown (hts _ w1) (oneA_P g3) 0 rfl (va_nm_int (hT.at g2).2) d (kk H locs ls K hl')
theorem r_mmmax (C : Cx G l V cc nL own fr lo mc ms Q X rt hh ini) {ix : Nat} {x y : Int32} {rest : List Value} (w1 : Cond.methodLink own ix Lib.Math.max.name ∈ lw_all) (w2 : Cond.static Lib.Math.max.name ∈ lw_all) (w3 : Cond.initialized "java/lang/Math" ∈ lw_all) (w4 : Cond.code Lib.Math.max.name Lib.Math.max.code 2 (some .int) ∈ lw_all) (d : decode cc pc = .ok (.invokestatic ix, 3)) (h1 : cn ≤ mc) (h2 : n ≤ ms) (hlo : (1 ≤ fr ∧ (rest.map fun v => v.category).sum + 13 ≤ lo)) (kk : V h cn n (pc + 3) L (.int (if x < y then y else x) :: rest)) : V h cn n pc L (.int y :: .int x :: rest) := by
  obtain ⟨p, e, s, m, args, below, meth, c, rfl, hx, hb, hml, hown, hts, hlk, hrt, hT, hZ, hz, hex, hini, hst⟩ := C
  intro H locs ls K hl'
  exact va_mmax hx hb (hml.trans hl'.1.symm) hown (hts _ w1) (hts _ w2) (hts _ w3) (hts _ w4) hlo.1 hlo.2 h1 h2 d (kk H locs ls K hl')
theorem r_mmmin (C : Cx G l V cc nL own fr lo mc ms Q X rt hh ini) {ix : Nat} {x y : Int32} {rest : List Value} (w1 : Cond.methodLink own ix Lib.Math.min.name ∈ lw_all) (w2 : Cond.static Lib.Math.min.name ∈ lw_all) (w3 : Cond.initialized "java/lang/Math" ∈ lw_all) (w4 : Cond.code Lib.Math.min.name Lib.Math.min.code 2 (some .int) ∈ lw_all) (d : decode cc pc = .ok (.invokestatic ix, 3)) (h1 : cn ≤ mc) (h2 : n ≤ ms) (hlo : (1 ≤ fr ∧ (rest.map fun v => v.category).sum + 13 ≤ lo)) (kk : V h cn n (pc + 3) L (.int (if y < x then y else x) :: rest)) : V h cn n pc L (.int y :: .int x :: rest) := by
  obtain ⟨p, e, s, m, args, below, meth, c, rfl, hx, hb, hml, hown, hts, hlk, hrt, hT, hZ, hz, hex, hini, hst⟩ := C
  intro H locs ls K hl'
  exact va_mmin hx hb (hml.trans hl'.1.symm) hown (hts _ w1) (hts _ w2) (hts _ w3) (hts _ w4) hlo.1 hlo.2 h1 h2 d (kk H locs ls K hl')
theorem r_alenE (C : Cx G l V cc nL own fr lo mc ms Q X rt hh ini) {a : Nat} {K : Int32 → Prop} (d : decode cc pc = .ok (.arraylength, 1)) (hw : alenE G h a K) (kk : ∀ x : Int32, K x → V h cn n (pc + 1) L (.int x :: rest)) : V h cn n pc L (.ref a :: rest) := by
  rcases hw with ⟨rfl, hw⟩ | hw
  · exact r_alenE0 C d (kk _ hw)
  · exact r_alen C d hw kk
end
/-! VIEWS: the same machine heap, seen otherwise -/
def VS (h : Hp) (P : Hp → Prop) : Prop := ∀ (G : gT) (H : Heap), HpR G h H → ∃ h' : Hp, HpR G h' H ∧ P h'
theorem VS.id {h : Hp} {P : Hp → Prop} (hp : P h) : VS h P := fun _ _ hR => ⟨h, hR, hp⟩
theorem VS.mono {h : Hp} {P P' : Hp → Prop} (hv : VS h P) (hp : ∀ h', P h' → P' h') : VS h P' := fun G H hR => by
  obtain ⟨h', h1, h2⟩ := hv G H hR
  exact ⟨h', h1, hp _ h2⟩
theorem VS.trans {h : Hp} {P P' : Hp → Prop} (hv : VS h P) (hp : ∀ h', P h' → VS h' P') : VS h P' := fun G H hR => by
  obtain ⟨h', h1, h2⟩ := hv G H hR
  exact hp _ h2 G H h1
theorem Ct.post {G : gT} {l : Launch} {y : MethodName} {ws : List Cond} {fr lo mc ms : Nat} {av : List Value} {h : Hp} {Q Q' : Option Value → Hp → Prop} (hv : Ct G l y ws fr lo mc ms av h Q') (hq : ∀ v h2, Q' v h2 → Q v h2) : Ct G l y ws fr lo mc ms av h Q := by
  intro p e ha hc hk s m args below hf happ hP hKK
  obtain ⟨n, o, g1, g2, g3, ⟨⟨⟨v, h2, g4, g5, g6⟩, g7⟩, g8⟩⟩ := hv p e ha hc hk s m args below hf happ hP hKK
  exact ⟨n, o, g1, g2, g3, ⟨⟨v, h2, g4, hq _ _ g5, g6⟩, g7⟩, g8⟩
theorem Ct.vsG {G : gT} {l : Launch} {y : MethodName} {ws : List Cond} {fr lo mc ms : Nat} {av : List Value} {h : Hp} {Q : Option Value → Hp → Prop} (hv : ∀ H : Heap, HpR G h H → ∃ h' : Hp, HpR G h' H ∧ Ct G l y ws fr lo mc ms av h' (fun v h2 => VS h2 (fun h3 => Q v h3))) : Ct G l y ws fr lo mc ms av h Q := by
  intro p e ha hc hk s m args below hf happ hP hKK
  obtain ⟨h0, hT, hZ, hR, hz⟩ := hP
  obtain ⟨h', hR', hM⟩ := hv s.heap hR
  obtain ⟨n, o, g1, g2, g3, ⟨⟨⟨v, h2, g4, g5, g6⟩, g7⟩, g8⟩⟩ := hM p e ha hc hk s m args below hf happ ⟨h0, hT, hZ, hR', hz⟩ hKK
  obtain ⟨k1, k2, k3, k4⟩ := g6
  obtain ⟨h3, q1, q2⟩ := g5 G _ k3
  exact ⟨n, o, g1, g2, g3, ⟨⟨v, h3, g4, q2, k1, k2, q1, k4⟩, g7⟩, g8⟩
theorem Ct.vs {G : gT} {l : Launch} {y : MethodName} {ws : List Cond} {fr lo mc ms : Nat} {av : List Value} {h : Hp} {Q : Option Value → Hp → Prop} (hv : VS h (fun h' => Ct G l y ws fr lo mc ms av h' (fun v h2 => VS h2 (fun h3 => Q v h3)))) : Ct G l y ws fr lo mc ms av h Q := by
  intro p e ha hc hk s m args below hf happ hP hKK
  obtain ⟨h0, hT, hZ, hR, hz⟩ := hP
  obtain ⟨h', hR', hM⟩ := hv G s.heap hR
  obtain ⟨n, o, g1, g2, g3, ⟨⟨⟨v, h2, g4, g5, g6⟩, g7⟩, g8⟩⟩ := hM p e ha hc hk s m args below hf happ ⟨h0, hT, hZ, hR', hz⟩ hKK
  obtain ⟨k1, k2, k3, k4⟩ := g6
  obtain ⟨h3, q1, q2⟩ := g5 G _ k3
  exact ⟨n, o, g1, g2, g3, ⟨⟨v, h3, g4, q2, k1, k2, q1, k4⟩, g7⟩, g8⟩
/-! Integer: by hand -/
theorem HpR.int {G : gT} {h : Hp} {H : Heap} {y : Nat} {v : Int32} (hR : HpR G h H) (hI : ∀ τ : Nat → Option Nat, (∀ x : Nat, x < G.1 → τ x = none) → (∀ (a : Nat) (e : E2), h a = some e → Rl G τ H a e) → τ y = none ∧ IntC G H y v) : (h y = none ∨ h y = some (eN v)) ∧ HpR G (hup h y (eN v)) H := by
  obtain ⟨τ, hlow, hτ⟩ := hR
  obtain ⟨h1, h2⟩ := hI τ hlow hτ
  refine ⟨?_, τ, hlow, fun b e he => ?_⟩
  · cases hc : h y with
    | none => exact Or.inl rfl
    | some e =>
      right
      have hr := hτ y e hc
      rcases e with ⟨t, z⟩ | ⟨ci, fs⟩ | ⟨k, xs, md⟩ | b | w
      · exact absurd (hr.1.symm.trans h1) (by simp)
      · exact absurd (hr.1.symm.trans h1) (by simp)
      · exact absurd (hr.1.symm.trans h1) (by simp)
      · exact absurd (hr.1.symm.trans h1) (by simp)
      · obtain ⟨-, cell, g1, g2, g3, g4, g5⟩ := hr
        obtain ⟨cell', k1, k2, k3, k4, k5⟩ := h2
        rw [g1] at k1
        cases k1
        rw [g5] at k5
        cases k5
        rfl
  · by_cases hb : b = y
    · subst hb
      rw [hup_s] at he
      cases he
      exact ⟨h1, h2⟩
    · rw [hup_n h _ hb] at he
      exact hτ b e he
/-- an Integer just made is laid among those that nobody writes -/
theorem HpR.freeze {G : gT} {h : Hp} {H : Heap} {q : Nat} {v : Int32} (hR : HpR G h H) (hq : h q = some (eO 12 [.int v])) : HpR G (hup h q (eN v)) H := by
  obtain ⟨τ, hlow, hτ⟩ := hR
  have hr := hτ q _ hq
  refine ⟨fun x => if x = q then none else τ x, fun x hx => by show (if x = q then none else τ x) = none; split; rfl; exact hlow x hx, fun b e he => ?_⟩
  by_cases hb : b = q
  · subst hb
    rw [hup_s] at he
    cases he
    obtain ⟨r1, r2, r3, g1, cell, q1, q2, q3, q4⟩ := hr
    have hr3 : r3 = (RJ24, TJ24, 1) := Option.some.inj (g1.symm.trans rfl)
    subst hr3
    refine ⟨if_pos rfl, cell, q1, q2, by rw [q3]; rfl, (by rw [q3]; exact fun h => VmData.noConfusion h), ?_⟩
    rw [q4 0 (by decide)]
    rfl
  · rw [hup_n h _ hb] at he
    refine (hτ b e he).frame fun x hx hx2 => ⟨rfl, if_neg fun hxq => ?_⟩
    subst hxq
    rw [hr.1] at hx2
    rcases hx2 with hx2 | hx2
    · exact hb (Option.some.inj hx2).symm
    · cases hx2
def wj_J24_valueOf (mc ms : Nat) (i : Int32) (h : Hp) (Q : Option Nat → Hp → Prop) : Prop := 1 ≤ mc ∧ 1 ≤ ms ∧ ∀ y : Nat, (h y = none ∨ h y = some (eN i)) → Q (some y) (hup h y (eN i))
def wj_J24_intValue (a : Nat) (h : Hp) (Q : Int32 → Hp → Prop) : Prop := ∃ v : Int32, h a = some (eN v) ∧ Q v h
def wj_J24_equals (a b : Nat) (h : Hp) (Q : Bool → Hp → Prop) : Prop := ∃ v w : Int32, h a = some (eN v) ∧ h b = some (eN w) ∧ Q (decide (v = w)) h
theorem r_gfN {G : gT} {l : Launch} {V : Hp → Nat → Nat → Nat → List (Nat × Value) → List Value → Prop} {cc : ByteArray} {nL : Nat} {fr lo mc ms : Nat} {Q : Option Value → Hp → Prop} {X : Option (String → Hp → Prop)} {rt : Option FieldType} {hh : List (Nat × Nat × Nat × Nat)} {ini : Bool} {h : Hp} {cn n pc : Nat} {L : List (Nat × Value)} {rest : List Value} (C : Cx G l V cc nL RJ24 fr lo mc ms Q X rt hh ini) {a ix : Nat} {v : Int32} (w1 : Cond.fieldLink RJ24 ix "java/lang/Integer" "value" "I" ∈ lw_all) (d : decode cc pc = .ok (.getfield ix, 3)) (hw : h a = some (eN v)) (kk : V h cn n (pc + 3) L (.int v :: rest)) : V h cn n pc L (.ref a :: rest) := by
  obtain ⟨p, e, s, m, args, below, meth, c, rfl, hx, hb, hml, hown, hts, hlk, hrt, hT, hZ, hz, hex, hini, hst⟩ := C
  intro H locs ls K hl'
  obtain ⟨τ, hlow, hτ⟩ := K.1
  obtain ⟨-, cell, g1, g2, g3, g4, g5⟩ := hτ a _ hw
  have hkn := hT.kn (ci := 12) (q := (RJ24, TJ24, 1)) rfl
  obtain ⟨hS, hfc, kC, hkC, hkind⟩ := hkn
  obtain ⟨cf, kf, fi, f, hi, hsl⟩ := hS 0 Nat.zero_lt_one
  refine W.getf hx hb hown (hts _ w1) hi (u_facts hfc hkC (u_lays hts in_J24 Nat.zero_lt_one) hi).1 g1 g4 (v := .int v) ?_ rfl rfl d (kk H locs ls K hl')
  rw [hsl]
  exact g5
theorem sg_J24_valueOf : ySg yJ24_valueOf 1 = true := by decide +kernel
theorem sg_J24_intValue : ySg yJ24_intValue 0 = true := by decide +kernel
theorem sg_J24_equals : ySg yJ24_equals 1 = true := by decide +kernel
theorem cj_J24_intValue (G : gT) (l : Launch) (a0 : Nat) (h : Hp) (Q : Int32 → Hp → Prop) (hw : wj_J24_intValue a0 h Q) : Ct G l yJ24_intValue (ws_ yJ24_intValue cJ24_intValue 1 (some .int)) 1 12 0 0 [.ref a0] h (pI Q) := by
  refine Ct.of (own := RJ24) false (by decide +kernel) rfl (show (_ : Nat) ≤ _ from Nat.le_of_ble_eq_true rfl) (fun z => by cases z) (fun V C => ?_)
  show V h 0 0 0 [(0, .ref a0)] []
  obtain ⟨v, h1, hw⟩ := hw
  refine r_aload_n C rfl 0 rfl dJ24_intValue_0 ?_
  refine r_gfN C q911 dJ24_intValue_1 h1 ?_
  exact r_ireturn C dJ24_intValue_4 (Nat.le_refl _) (Nat.le_refl _) ⟨_, rfl, hw⟩
theorem cj_J24_equals (G : gT) (l : Launch) (a0 a1 : Nat) (h : Hp) (Q : Bool → Hp → Prop) (hw : wj_J24_equals a0 a1 h Q) : Ct G l yJ24_equals (ws_ yJ24_equals cJ24_equals 2 (some .boolean)) 2 32 0 0 [.ref a0, .ref a1] h (pZ Q) := by
  refine Ct.of (own := RJ24) false (by decide +kernel) rfl (show (_ : Nat) ≤ _ from Nat.le_of_ble_eq_true rfl) (fun z => by cases z) (fun V C => ?_)
  show V h 0 0 0 [(0, .ref a0), (1, .ref a1)] []
  obtain ⟨v, w, h1, h2, hw⟩ := hw
  have hc : hasC h a1 12 := by unfold hasC; rw [h2]
  refine r_aload_n C rfl 1 rfl dJ24_equals_0 ?_
  refine r_inst C (ci := 12) rfl q902 dJ24_equals_1 hc ?_
  refine r_if_eq (tgt := 27) C (by decide) dJ24_equals_4 (fun z => absurd z (by decide)) (fun _ => ?_)
  refine r_aload_n C rfl 0 rfl dJ24_equals_7 ?_
  refine r_gfN C q911 dJ24_equals_8 h1 ?_
  refine r_aload_n C rfl 1 rfl dJ24_equals_11 ?_
  refine r_cast (x := some a1) C (ci := 12) rfl q902 dJ24_equals_12 (fun z hz => by cases hz; exact hc) ?_
  refine r_callV (ci := 12) (rest := [.int v]) (As := []) C sg_J24_intValue rfl rfl q951 q952 q953 q105 q954 rfl (Nat.le_of_ble_eq_true rfl) dJ24_equals_15 rfl hc (Nat.le_refl _) (Nat.le_refl _) (cj_J24_intValue G l a1 h (fun r h' => r = w ∧ h' = h) ⟨w, h2, rfl, rfl⟩) (k_I (fun r h' hq => ?_))
  obtain ⟨rfl, rfl⟩ := hq
  refine r_icmp_ne (tgt := 25) C (by decide) dJ24_equals_18 (fun hn => ?_) (fun he => ?_)
  · refine r_iconst (v := (0 : Int32)) C (by decide) dJ24_equals_25 ?_
    refine r_zreturn (x := false) C dJ24_equals_26 (Nat.le_refl _) (Nat.le_refl _) ⟨_, rfl, ?_⟩
    rw [decide_eq_false hn] at hw
    exact hw
  · refine r_iconst (v := (1 : Int32)) C (by decide) dJ24_equals_21 (r_goto (tgt := 26) C (by decide) dJ24_equals_22 ?_)
    refine r_zreturn (x := true) C dJ24_equals_26 (Nat.le_refl _) (Nat.le_refl _) ⟨_, rfl, ?_⟩
    rw [decide_eq_true he] at hw
    exact hw
