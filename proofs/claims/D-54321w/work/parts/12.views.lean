set_option maxRecDepth 100000
set_option maxHeartbeats 4000000

theorem i32_k {i : Int32} (h1 : ¬ i < -128) (h2 : ¬ 127 < i) : vp_in (i + 128) 256 ∧ (i + 128).toNatClampNeg < 256 ∧ vb_c (i + 128).toNatClampNeg = i := by
  have e1 : -128 ≤ i.toInt := by
    have := (not_congr Int32.lt_iff_toInt_lt).mp h1
    have e : (-128 : Int32).toInt = -128 := by decide
    omega
  have e2 : i.toInt ≤ 127 := by
    have := (not_congr Int32.lt_iff_toInt_lt).mp h2
    have e : (127 : Int32).toInt = 127 := by decide
    omega
  have e3 : (i + 128).toInt = i.toInt + 128 := by
    rw [Int32.toInt_add]
    have e : (128 : Int32).toInt = 128 := by decide
    rw [e]
    exact Int.bmod_eq_of_le (by omega) (by omega)
  have e4 : (i + 128).toNatClampNeg = (i.toInt + 128).toNat := by rw [Int32.toNatClampNeg, e3]
  refine ⟨?_, by omega, ?_⟩
  · intro q
    rcases q with q | q
    · have := Int32.lt_iff_toInt_lt.mp q
      have e : (0 : Int32).toInt = 0 := by decide
      omega
    · omega
  · have e5 : Int32.ofNat (i + 128).toNatClampNeg = i + 128 := by
      apply Int32.toInt_inj.mp
      rw [e3, e4, Int32.toInt_ofNat_of_lt (by omega)]
      omega
    unfold vb_c
    rw [e5]
    apply Int32.toInt_inj.mp
    rw [Int32.toInt_sub, e3]
    have e : (128 : Int32).toInt = 128 := by decide
    rw [e, show i.toInt + 128 - 128 = i.toInt by omega]
    exact Int.bmod_eq_of_le (by omega) (by omega)
section
variable {G : gT} {l : Launch} {V : Hp → Nat → Nat → Nat → List (Nat × Value) → List Value → Prop} {cc : ByteArray} {nL : Nat} {own : String} {fr lo mc ms : Nat} {Q : Option Value → Hp → Prop} {X : Option (String → Hp → Prop)} {rt : Option FieldType} {hh : List (Nat × Nat × Nat × Nat)} {ini : Bool}
variable {h : Hp} {cn n pc : Nat} {L : List (Nat × Value)} {rest : List Value}
theorem r_getHi (C : Cx G l V cc nL own fr lo mc ms Q X rt hh ini) {ix : Nat} (w1 : Cond.fieldLink own ix "java/lang/Integer$IntegerCache" "high" "I" ∈ lw_all) (d : decode cc pc = .ok (.getstatic ix, 3)) (kk : V h cn n (pc + 3) L (.int 127 :: rest)) : V h cn n pc L rest := by
  obtain ⟨p, e, s, m, args, below, meth, c, rfl, hx, hb, hml, hown, hts, hlk, hrt, hT, hZ, hz, hex, hini, hst⟩ := C
  intro H locs ls K hl'
  exact va_gets hx hb hZ.2.2.2.1 K.2 hown (hts _ w1) (fun _ z => z) d (kk H locs ls K hl')
theorem r_getCa (C : Cx G l V cc nL own fr lo mc ms Q X rt hh ini) {ix : Nat} (w1 : Cond.fieldLink own ix "java/lang/Integer$IntegerCache" "cache" "[Ljava/lang/Integer;" ∈ lw_all) (d : decode cc pc = .ok (.getstatic ix, 3)) (kk : V h cn n (pc + 3) L (.ref (gCa G) :: rest)) : V h cn n pc L rest := by
  obtain ⟨p, e, s, m, args, below, meth, c, rfl, hx, hb, hml, hown, hts, hlk, hrt, hT, hZ, hz, hex, hini, hst⟩ := C
  intro H locs ls K hl'
  exact va_gets hx hb hZ.2.2.2.2.1 K.2 hown (hts _ w1) (fun _ z => z) d (kk H locs ls K hl')
theorem r_cache (C : Cx G l V cc nL own fr lo mc ms Q X rt hh ini) {i : Int32} (h1 : ¬ i < -128) (h2 : ¬ 127 < i) (d : decode cc pc = .ok (.aaload, 1)) (kk : ∀ y : Nat, (h y = none ∨ h y = some (eN i)) → V (hup h y (eN i)) cn n (pc + 1) L (.ref y :: rest)) : V h cn n pc L (.int (i + 128) :: .ref (gCa G) :: rest) := by
  obtain ⟨p, e, s, m, args, below, meth, c, rfl, hx, hb, hml, hown, hts, hlk, hrt, hT, hZ, hz, hex, hini, hst⟩ := C
  intro H locs ls K hl'
  obtain ⟨e1, e2, e3⟩ := i32_k h1 h2
  obtain ⟨g1, g2⟩ := K.1.int (y := gAd G (i + 128).toNatClampNeg) (v := i) (fun τ hlow _ => by
    obtain ⟨b1, b2⟩ := hZ.2.2.1.kept K.2.2.1
    obtain ⟨cell, c1, c2, c3, c4⟩ := b1 _ e2
    obtain ⟨cf, kf, fi, f, cell', d1, d2, d3, d4, d5, d6⟩ := b2 _ e2
    rw [c1] at d3
    cases d3
    have hkn := hT.kn (ci := 12) (q := (RJ24, TJ24, 1)) rfl
    obtain ⟨hS, hfc, -⟩ := hkn
    obtain ⟨cf', kf', fi', f', hi, hsl⟩ := hS 0 Nat.zero_lt_one
    have hi' : s.fieldFound? "java/lang/Integer" "value" "I" = some (cf', kf', fi', f') := hi
    rw [d1] at hi'
    cases hi'
    refine ⟨hlow _ (Nat.not_le.mp c4), cell, c1, ?_, c2, d4, ?_⟩
    · have hfc' : s.vm.findClass "java/lang/Integer" = some ((gD G).1 12) := hfc
      rw [c3] at hfc'
      exact Option.some.inj hfc'
    · rw [← hsl, d5]
      show some (Value.int (vb_c _)) = _
      rw [e3])
  exact vb_tq hx hb hZ.2.2.2.2.2.1 K.2 e1 rfl d (kk _ g1 H locs ls ⟨g2, K.2⟩ hl')
theorem r_freeze (C : Cx G l V cc nL own fr lo mc ms Q X rt hh ini) {q : Nat} {v : Int32} {stk : List Value} (hq : h q = some (eO 12 [.int v])) (kk : V (hup h q (eN v)) cn n pc L stk) : V h cn n pc L stk := by
  obtain ⟨p, e, s, m, args, below, meth, c, rfl, hx, hb, hml, hown, hts, hlk, hrt, hT, hZ, hz, hex, hini, hst⟩ := C
  intro H locs ls K hl'
  exact kk H locs ls ⟨K.1.freeze hq, K.2⟩ hl'
end
theorem hup_hup (h : Hp) (a : Nat) (e e' : E2) : hup (hup h a e) a e' = hup h a e' := by
  funext q
  unfold hup
  by_cases hq : q = a
  · rw [if_pos hq, if_pos hq]
  · rw [if_neg hq, if_neg hq, if_neg hq]
theorem cj_J24_valueOf (G : gT) (l : Launch) (mc ms : Nat) (i0 : Int32) (h : Hp) (Q : Option Nat → Hp → Prop) (hw : wj_J24_valueOf mc ms i0 h Q) : Ct G l yJ24_valueOf (ws_ yJ24_valueOf cJ24_valueOf 1 (some (.object "java/lang/Integer"))) 3 53 mc ms [.int i0] h (pR Q) := by
  refine Ct.of (own := RJ24) false (by decide +kernel) rfl (show (_ : Nat) ≤ _ from Nat.le_of_ble_eq_true rfl) (fun z => by cases z) (fun V C => ?_)
  show V h 0 0 0 [(0, .int i0)] []
  obtain ⟨m1, m2, hw⟩ := hw
  have fresh : V h 0 0 23 [(0, .int i0)] [] := by
    refine r_new C kJ24 q902 q903 q105 df_12 dJ24_valueOf_23 (Nat.le_trans (Nat.le_refl 1) m1) (Nat.le_trans (Nat.le_refl 1) m2) (K := fun q h' => h' = hup h q (eO 12 [.int 0]) ∧ h q = none) (fun q hq => ⟨rfl, hq⟩) (fun q h' hw' => ?_)
    obtain ⟨rfl, hq⟩ := hw'
    refine r_dup C rfl dJ24_valueOf_26 ?_
    refine r_iload_n C rfl 0 rfl dJ24_valueOf_27 ?_
    refine r_callI (rest := [.ref q]) (As := [.int i0]) C sg_J24_init rfl q904 q905 q105 q906 rfl (Nat.le_of_ble_eq_true rfl) dJ24_valueOf_28 rfl m1 m2 (c_J24_init G l q i0 _ (fun h2 => h2 = hup h q (eO 12 [.int i0])) ?_) (k_V (fun h2 hw => ?_))
    · unfold w_J24_init w_J23_init
      exact (pf_i (hup_s _ _ _) (by exact Nat.zero_lt_one)).mpr (hup_hup _ _ _ _)
    · subst hw
      refine r_freeze C (hup_s _ _ _) ?_
      rw [hup_hup]
      exact r_areturn (x := some q) C (by first | exact Or.inl ⟨_, rfl⟩ | exact Or.inr ⟨_, rfl⟩) dJ24_valueOf_31 m1 m2 ⟨_, rfl, hw q (Or.inl hq)⟩
  refine r_iload_n C rfl 0 rfl dJ24_valueOf_0 (r_bipush (v := (-128 : Int32)) C (by decide) dJ24_valueOf_1 ?_)
  refine r_icmp_lt (tgt := 23) C (by decide) dJ24_valueOf_3 (fun _ => fresh) (fun g1 => ?_)
  refine r_iload_n C rfl 0 rfl dJ24_valueOf_6 (r_getHi C q898 dJ24_valueOf_7 ?_)
  refine r_icmp_gt (tgt := 23) C (by decide) dJ24_valueOf_10 (fun _ => fresh) (fun g2 => ?_)
  refine r_getCa C q900 dJ24_valueOf_13 (r_iload_n C rfl 0 rfl dJ24_valueOf_16 (r_sipush (v := (128 : Int32)) C (by decide) dJ24_valueOf_17 (r_iadd C dJ24_valueOf_20 ?_)))
  refine r_cache C g1 g2 dJ24_valueOf_21 (fun y hy => ?_)
  exact r_areturn (x := some y) C (by first | exact Or.inl ⟨_, rfl⟩ | exact Or.inr ⟨_, rfl⟩) dJ24_valueOf_22 (Nat.zero_le _) (Nat.zero_le _) ⟨_, rfl, hw y hy⟩

def wj_J2_init (a0 : Nat) (h : Hp) (Q : Hp → Prop) : Prop := ∀ (G : gT) (H : Heap), HpR G h H → ∃ h' : Hp, HpR G h' H ∧ w_J2_init G a0 h' (fun h2 => VS h2 (fun h3 => Q h3))
theorem cj_J2_init (G : gT) (l : Launch) (a0 : Nat) (h : Hp) (Q : Hp → Prop) (hw : wj_J2_init a0 h Q) : Ct G l yJ2_init (ws_ yJ2_init cJ2_init 1 (none)) 3 52 0 0 [.ref a0] h (pV Q) := by
  refine Ct.vsG (fun H hR => ?_)
  obtain ⟨h', h1, hh⟩ := hw G H hR
  refine ⟨h', h1, (c_J2_init G l a0 h' _ hh).post (fun v h2 hq => ?_)⟩
  obtain ⟨hv, hq⟩ := hq
  exact hq.mono fun h3 hq3 => ⟨hv, hq3⟩
def wj_J2_add (mc ms : Nat) (a0 : Nat) (a1 : Nat) (h : Hp) (Q : Bool → Hp → Prop) : Prop := ∀ (G : gT) (H : Heap), HpR G h H → ∃ h' : Hp, HpR G h' H ∧ w_J2_add G mc ms a0 a1 h' (fun r h2 => VS h2 (fun h3 => Q r h3))
theorem cj_J2_add (G : gT) (l : Launch) (mc ms : Nat) (a0 : Nat) (a1 : Nat) (h : Hp) (Q : Bool → Hp → Prop) (hw : wj_J2_add mc ms a0 a1 h Q) : Ct G l yJ2_add (ws_ yJ2_add cJ2_add 2 (some .boolean)) 6 170 mc ms [.ref a0, .ref a1] h (pZ Q) := by
  refine Ct.vsG (fun H hR => ?_)
  obtain ⟨h', h1, hh⟩ := hw G H hR
  refine ⟨h', h1, (c_J2_add G l mc ms a0 a1 h' _ hh).post (fun v h2 hq => ?_)⟩
  obtain ⟨r, hv, hq⟩ := hq
  exact hq.mono fun h3 hq3 => ⟨r, hv, hq3⟩
def wj_J2_size (a0 : Nat) (h : Hp) (Q : Int32 → Hp → Prop) : Prop := VS h (fun h' => w_J2_size a0 h' (fun r h2 => VS h2 (fun h3 => Q r h3)))
theorem cj_J2_size (G : gT) (l : Launch) (a0 : Nat) (h : Hp) (Q : Int32 → Hp → Prop) (hw : wj_J2_size a0 h Q) : Ct G l yJ2_size (ws_ yJ2_size cJ2_size 1 (some .int)) 1 12 0 0 [.ref a0] h (pI Q) := by
  refine Ct.vs (VS.mono hw fun h' hh => (c_J2_size G l a0 h' _ hh).post (fun v h2 hq => ?_))
  obtain ⟨r, hv, hq⟩ := hq
  exact hq.mono fun h3 hq3 => ⟨r, hv, hq3⟩
def wj_J2_isEmpty (a0 : Nat) (h : Hp) (Q : Bool → Hp → Prop) : Prop := VS h (fun h' => w_J2_isEmpty a0 h' (fun r h2 => VS h2 (fun h3 => Q r h3)))
theorem cj_J2_isEmpty (G : gT) (l : Launch) (a0 : Nat) (h : Hp) (Q : Bool → Hp → Prop) (hw : wj_J2_isEmpty a0 h Q) : Ct G l yJ2_isEmpty (ws_ yJ2_isEmpty cJ2_isEmpty 1 (some .boolean)) 1 12 0 0 [.ref a0] h (pZ Q) := by
  refine Ct.vs (VS.mono hw fun h' hh => (c_J2_isEmpty G l a0 h' _ hh).post (fun v h2 hq => ?_))
  obtain ⟨r, hv, hq⟩ := hq
  exact hq.mono fun h3 hq3 => ⟨r, hv, hq3⟩
def wj_J2_get (a0 : Nat) (i1 : Int32) (h : Hp) (Q : Option Nat → Hp → Prop) : Prop := VS h (fun h' => w_J2_get a0 i1 h' (fun r h2 => VS h2 (fun h3 => Q r h3)))
theorem cj_J2_get (G : gT) (l : Launch) (a0 : Nat) (i1 : Int32) (h : Hp) (Q : Option Nat → Hp → Prop) (hw : wj_J2_get a0 i1 h Q) : Ct G l yJ2_get (ws_ yJ2_get cJ2_get 2 (some (.object "java/lang/Object"))) 3 55 0 0 [.ref a0, .int i1] h (pR Q) := by
  refine Ct.vs (VS.mono hw fun h' hh => (c_J2_get G l a0 i1 h' _ hh).post (fun v h2 hq => ?_))
  obtain ⟨r, hv, hq⟩ := hq
  exact hq.mono fun h3 hq3 => ⟨r, hv, hq3⟩
def wj_J2_contains (a0 : Nat) (a1 : Nat) (h : Hp) (Q : Bool → Hp → Prop) : Prop := VS h (fun h' => w_J2_contains a0 a1 h' (fun r h2 => VS h2 (fun h3 => Q r h3)))
theorem cj_J2_contains (G : gT) (l : Launch) (a0 : Nat) (a1 : Nat) (h : Hp) (Q : Bool → Hp → Prop) (hw : wj_J2_contains a0 a1 h Q) : Ct G l yJ2_contains (ws_ yJ2_contains cJ2_contains 2 (some .boolean)) 5 99 0 0 [.ref a0, .ref a1] h (pZ Q) := by
  refine Ct.vs (VS.mono hw fun h' hh => (c_J2_contains G l a0 a1 h' _ hh).post (fun v h2 hq => ?_))
  obtain ⟨r, hv, hq⟩ := hq
  exact hq.mono fun h3 hq3 => ⟨r, hv, hq3⟩
def wj_J2_iterator (mc ms : Nat) (a0 : Nat) (h : Hp) (Q : Option Nat → Hp → Prop) : Prop := VS h (fun h' => w_J2_iterator mc ms a0 h' (fun r h2 => VS h2 (fun h3 => Q r h3)))
theorem cj_J2_iterator (G : gT) (l : Launch) (mc ms : Nat) (a0 : Nat) (h : Hp) (Q : Option Nat → Hp → Prop) (hw : wj_J2_iterator mc ms a0 h Q) : Ct G l yJ2_iterator (ws_ yJ2_iterator cJ2_iterator 1 (some (.object "java/util/Iterator"))) 2 33 mc ms [.ref a0] h (pR Q) := by
  refine Ct.vs (VS.mono hw fun h' hh => (c_J2_iterator G l mc ms a0 h' _ hh).post (fun v h2 hq => ?_))
  obtain ⟨r, hv, hq⟩ := hq
  exact hq.mono fun h3 hq3 => ⟨r, hv, hq3⟩
def wj_J2_set (a0 : Nat) (i1 : Int32) (a2 : Nat) (h : Hp) (Q : Option Nat → Hp → Prop) : Prop := VS h (fun h' => w_J2_set a0 i1 a2 h' (fun r h2 => VS h2 (fun h3 => Q r h3)))
theorem cj_J2_set (G : gT) (l : Launch) (a0 : Nat) (i1 : Int32) (a2 : Nat) (h : Hp) (Q : Option Nat → Hp → Prop) (hw : wj_J2_set a0 i1 a2 h Q) : Ct G l yJ2_set (ws_ yJ2_set cJ2_set 4 (some (.object "java/lang/Object"))) 3 55 0 0 [.ref a0, .int i1, .ref a2] h (pR Q) := by
  refine Ct.vs (VS.mono hw fun h' hh => (c_J2_set G l a0 i1 a2 h' _ hh).post (fun v h2 hq => ?_))
  obtain ⟨r, hv, hq⟩ := hq
  exact hq.mono fun h3 hq3 => ⟨r, hv, hq3⟩
def wj_J25_hasNext (a0 : Nat) (h : Hp) (Q : Bool → Hp → Prop) : Prop := VS h (fun h' => w_J25_hasNext a0 h' (fun r h2 => VS h2 (fun h3 => Q r h3)))
theorem cj_J25_hasNext (G : gT) (l : Launch) (a0 : Nat) (h : Hp) (Q : Bool → Hp → Prop) (hw : wj_J25_hasNext a0 h Q) : Ct G l yJ25_hasNext (ws_ yJ25_hasNext cJ25_hasNext 1 (some .boolean)) 1 12 0 0 [.ref a0] h (pZ Q) := by
  refine Ct.vs (VS.mono hw fun h' hh => (c_J25_hasNext G l a0 h' _ hh).post (fun v h2 hq => ?_))
  obtain ⟨r, hv, hq⟩ := hq
  exact hq.mono fun h3 hq3 => ⟨r, hv, hq3⟩
def wj_J25_next (a0 : Nat) (h : Hp) (Q : Option Nat → Hp → Prop) : Prop := VS h (fun h' => w_J25_next a0 h' (fun r h2 => VS h2 (fun h3 => Q r h3)))
theorem cj_J25_next (G : gT) (l : Launch) (a0 : Nat) (h : Hp) (Q : Option Nat → Hp → Prop) (hw : wj_J25_next a0 h Q) : Ct G l yJ25_next (ws_ yJ25_next cJ25_next 3 (some (.object "java/lang/Object"))) 2 32 0 0 [.ref a0] h (pR Q) := by
  refine Ct.vs (VS.mono hw fun h' hh => (c_J25_next G l a0 h' _ hh).post (fun v h2 hq => ?_))
  obtain ⟨r, hv, hq⟩ := hq
  exact hq.mono fun h3 hq3 => ⟨r, hv, hq3⟩
def wj_J28_hasNext (a0 : Nat) (h : Hp) (Q : Bool → Hp → Prop) : Prop := VS h (fun h' => w_J28_hasNext a0 h' (fun r h2 => VS h2 (fun h3 => Q r h3)))
theorem cj_J28_hasNext (G : gT) (l : Launch) (a0 : Nat) (h : Hp) (Q : Bool → Hp → Prop) (hw : wj_J28_hasNext a0 h Q) : Ct G l yJ28_hasNext (ws_ yJ28_hasNext cJ28_hasNext 1 (some .boolean)) 1 12 0 0 [.ref a0] h (pZ Q) := by
  refine Ct.vs (VS.mono hw fun h' hh => (c_J28_hasNext G l a0 h' _ hh).post (fun v h2 hq => ?_))
  obtain ⟨r, hv, hq⟩ := hq
  exact hq.mono fun h3 hq3 => ⟨r, hv, hq3⟩
def wj_J28_next (a0 : Nat) (h : Hp) (Q : Option Nat → Hp → Prop) : Prop := VS h (fun h' => w_J28_next a0 h' (fun r h2 => VS h2 (fun h3 => Q r h3)))
theorem cj_J28_next (G : gT) (l : Launch) (a0 : Nat) (h : Hp) (Q : Option Nat → Hp → Prop) (hw : wj_J28_next a0 h Q) : Ct G l yJ28_next (ws_ yJ28_next cJ28_next 1 (some (.object "java/lang/Object"))) 2 32 0 0 [.ref a0] h (pR Q) := by
  refine Ct.vs (VS.mono hw fun h' hh => (c_J28_next G l a0 h' _ hh).post (fun v h2 hq => ?_))
  obtain ⟨r, hv, hq⟩ := hq
  exact hq.mono fun h3 hq3 => ⟨r, hv, hq3⟩
def wj_J28_remove (a0 : Nat) (h : Hp) (Q : Hp → Prop) : Prop := VS h (fun h' => w_J28_remove a0 h' (fun h2 => VS h2 (fun h3 => Q h3)))
theorem cj_J28_remove (G : gT) (l : Launch) (a0 : Nat) (h : Hp) (Q : Hp → Prop) (hw : wj_J28_remove a0 h Q) : Ct G l yJ28_remove (ws_ yJ28_remove cJ28_remove 2 (none)) 2 36 0 0 [.ref a0] h (pV Q) := by
  refine Ct.vs (VS.mono hw fun h' hh => (c_J28_remove G l a0 h' _ hh).post (fun v h2 hq => ?_))
  obtain ⟨hv, hq⟩ := hq
  exact hq.mono fun h3 hq3 => ⟨hv, hq3⟩
def wj_J3_iterator (mc ms : Nat) (a0 : Nat) (h : Hp) (Q : Option Nat → Hp → Prop) : Prop := VS h (fun h' => w_J3_iterator mc ms a0 h' (fun r h2 => VS h2 (fun h3 => Q r h3)))
theorem cj_J3_iterator (G : gT) (l : Launch) (mc ms : Nat) (a0 : Nat) (h : Hp) (Q : Option Nat → Hp → Prop) (hw : wj_J3_iterator mc ms a0 h Q) : Ct G l yJ3_iterator (ws_ yJ3_iterator cJ3_iterator 1 (some (.object "java/util/Iterator"))) 5 98 mc ms [.ref a0] h (pR Q) := by
  refine Ct.vs (VS.mono hw fun h' hh => (c_J3_iterator G l mc ms a0 h' _ hh).post (fun v h2 hq => ?_))
  obtain ⟨r, hv, hq⟩ := hq
  exact hq.mono fun h3 hq3 => ⟨r, hv, hq3⟩
def wj_J30_init (mc ms : Nat) (a0 : Nat) (i1 : Int32) (h : Hp) (Q : Hp → Prop) : Prop := VS h (fun h' => w_J30_init mc ms a0 i1 h' (fun h2 => VS h2 (fun h3 => Q h3)))
theorem cj_J30_init (G : gT) (l : Launch) (mc ms : Nat) (a0 : Nat) (i1 : Int32) (h : Hp) (Q : Hp → Prop) (hw : wj_J30_init mc ms a0 i1 h Q) : Ct G l yJ30_init (ws_ yJ30_init cJ30_init 2 (none)) 3 53 mc ms [.ref a0, .int i1] h (pV Q) := by
  refine Ct.vs (VS.mono hw fun h' hh => (c_J30_init G l mc ms a0 i1 h' _ hh).post (fun v h2 hq => ?_))
  obtain ⟨hv, hq⟩ := hq
  exact hq.mono fun h3 hq3 => ⟨hv, hq3⟩
def wj_J30_set (a0 : Nat) (i1 : Int32) (h : Hp) (Q : Hp → Prop) : Prop := VS h (fun h' => w_J30_set a0 i1 h' (fun h2 => VS h2 (fun h3 => Q h3)))
theorem cj_J30_set (G : gT) (l : Launch) (a0 : Nat) (i1 : Int32) (h : Hp) (Q : Hp → Prop) (hw : wj_J30_set a0 i1 h Q) : Ct G l yJ30_set (ws_ yJ30_set cJ30_set 3 (none)) 3 104 0 0 [.ref a0, .int i1] h (pV Q) := by
  refine Ct.vs (VS.mono hw fun h' hh => (c_J30_set G l a0 i1 h' _ hh).post (fun v h2 hq => ?_))
  obtain ⟨hv, hq⟩ := hq
  exact hq.mono fun h3 hq3 => ⟨hv, hq3⟩
def wj_J30_isEmpty (a0 : Nat) (h : Hp) (Q : Bool → Hp → Prop) : Prop := VS h (fun h' => w_J30_isEmpty a0 h' (fun r h2 => VS h2 (fun h3 => Q r h3)))
theorem cj_J30_isEmpty (G : gT) (l : Launch) (a0 : Nat) (h : Hp) (Q : Bool → Hp → Prop) (hw : wj_J30_isEmpty a0 h Q) : Ct G l yJ30_isEmpty (ws_ yJ30_isEmpty cJ30_isEmpty 1 (some .boolean)) 1 12 0 0 [.ref a0] h (pZ Q) := by
  refine Ct.vs (VS.mono hw fun h' hh => (c_J30_isEmpty G l a0 h' _ hh).post (fun v h2 hq => ?_))
  obtain ⟨r, hv, hq⟩ := hq
  exact hq.mono fun h3 hq3 => ⟨r, hv, hq3⟩
def wj_J30_and (a0 : Nat) (a1 : Nat) (h : Hp) (Q : Hp → Prop) : Prop := VS h (fun h' => w_J30_and a0 a1 h' (fun h2 => VS h2 (fun h3 => Q h3)))
theorem cj_J30_and (G : gT) (l : Launch) (a0 : Nat) (a1 : Nat) (h : Hp) (Q : Hp → Prop) (hw : wj_J30_and a0 a1 h Q) : Ct G l yJ30_and (ws_ yJ30_and cJ30_and 3 (none)) 2 33 0 0 [.ref a0, .ref a1] h (pV Q) := by
  refine Ct.vs (VS.mono hw fun h' hh => (c_J30_and G l a0 a1 h' _ hh).post (fun v h2 hq => ?_))
  obtain ⟨hv, hq⟩ := hq
  exact hq.mono fun h3 hq3 => ⟨hv, hq3⟩
def wj_J30_or (a0 : Nat) (a1 : Nat) (h : Hp) (Q : Hp → Prop) : Prop := VS h (fun h' => w_J30_or a0 a1 h' (fun h2 => VS h2 (fun h3 => Q h3)))
theorem cj_J30_or (G : gT) (l : Launch) (a0 : Nat) (a1 : Nat) (h : Hp) (Q : Hp → Prop) (hw : wj_J30_or a0 a1 h Q) : Ct G l yJ30_or (ws_ yJ30_or cJ30_or 4 (none)) 2 82 0 0 [.ref a0, .ref a1] h (pV Q) := by
  refine Ct.vs (VS.mono hw fun h' hh => (c_J30_or G l a0 a1 h' _ hh).post (fun v h2 hq => ?_))
  obtain ⟨hv, hq⟩ := hq
  exact hq.mono fun h3 hq3 => ⟨hv, hq3⟩
def wj_J30_nextSetBit (a0 : Nat) (i1 : Int32) (h : Hp) (Q : Int32 → Hp → Prop) : Prop := VS h (fun h' => w_J30_nextSetBit a0 i1 h' (fun r h2 => VS h2 (fun h3 => Q r h3)))
theorem cj_J30_nextSetBit (G : gT) (l : Launch) (a0 : Nat) (i1 : Int32) (h : Hp) (Q : Int32 → Hp → Prop) (hw : wj_J30_nextSetBit a0 i1 h Q) : Ct G l yJ30_nextSetBit (ws_ yJ30_nextSetBit cJ30_nextSetBit 5 (some .int)) 3 55 0 0 [.ref a0, .int i1] h (pI Q) := by
  refine Ct.vs (VS.mono hw fun h' hh => (c_J30_nextSetBit G l a0 i1 h' _ hh).post (fun v h2 hq => ?_))
  obtain ⟨r, hv, hq⟩ := hq
  exact hq.mono fun h3 hq3 => ⟨r, hv, hq3⟩
def wj_J30_length (a0 : Nat) (h : Hp) (Q : Int32 → Hp → Prop) : Prop := VS h (fun h' => w_J30_length a0 h' (fun r h2 => VS h2 (fun h3 => Q r h3)))
theorem cj_J30_length (G : gT) (l : Launch) (a0 : Nat) (h : Hp) (Q : Int32 → Hp → Prop) (hw : wj_J30_length a0 h Q) : Ct G l yJ30_length (ws_ yJ30_length cJ30_length 1 (some .int)) 3 55 0 0 [.ref a0] h (pI Q) := by
  refine Ct.vs (VS.mono hw fun h' hh => (c_J30_length G l a0 h' _ hh).post (fun v h2 hq => ?_))
  obtain ⟨r, hv, hq⟩ := hq
  exact hq.mono fun h3 hq3 => ⟨r, hv, hq3⟩
def wj_J30_cardinality (a0 : Nat) (h : Hp) (Q : Int32 → Hp → Prop) : Prop := VS h (fun h' => w_J30_cardinality a0 h' (fun r h2 => VS h2 (fun h3 => Q r h3)))
theorem cj_J30_cardinality (G : gT) (l : Launch) (a0 : Nat) (h : Hp) (Q : Int32 → Hp → Prop) (hw : wj_J30_cardinality a0 h Q) : Ct G l yJ30_cardinality (ws_ yJ30_cardinality cJ30_cardinality 3 (some .int)) 2 33 0 0 [.ref a0] h (pI Q) := by
  refine Ct.vs (VS.mono hw fun h' hh => (c_J30_cardinality G l a0 h' _ hh).post (fun v h2 hq => ?_))
  obtain ⟨r, hv, hq⟩ := hq
  exact hq.mono fun h3 hq3 => ⟨r, hv, hq3⟩
def wj_J30_get (a0 : Nat) (i1 : Int32) (h : Hp) (Q : Bool → Hp → Prop) : Prop := VS h (fun h' => w_J30_get a0 i1 h' (fun r h2 => VS h2 (fun h3 => Q r h3)))
theorem cj_J30_get (G : gT) (l : Launch) (a0 : Nat) (i1 : Int32) (h : Hp) (Q : Bool → Hp → Prop) (hw : wj_J30_get a0 i1 h Q) : Ct G l yJ30_get (ws_ yJ30_get cJ30_get 3 (some .boolean)) 2 32 0 0 [.ref a0, .int i1] h (pZ Q) := by
  refine Ct.vs (VS.mono hw fun h' hh => (c_J30_get G l a0 i1 h' _ hh).post (fun v h2 hq => ?_))
  obtain ⟨r, hv, hq⟩ := hq
  exact hq.mono fun h3 hq3 => ⟨r, hv, hq3⟩
def wj_J4_init (a0 : Nat) (h : Hp) (Q : Hp → Prop) : Prop := VS h (fun h' => w_J4_init a0 h' (fun h2 => VS h2 (fun h3 => Q h3)))
theorem cj_J4_init (G : gT) (l : Launch) (a0 : Nat) (h : Hp) (Q : Hp → Prop) (hw : wj_J4_init a0 h Q) : Ct G l yJ4_init (ws_ yJ4_init cJ4_init 1 (none)) 4 72 0 0 [.ref a0] h (pV Q) := by
  refine Ct.vs (VS.mono hw fun h' hh => (c_J4_init G l a0 h' _ hh).post (fun v h2 hq => ?_))
  obtain ⟨hv, hq⟩ := hq
  exact hq.mono fun h3 hq3 => ⟨hv, hq3⟩
def wj_J4_size (a0 : Nat) (h : Hp) (Q : Int32 → Hp → Prop) : Prop := VS h (fun h' => w_J4_size a0 h' (fun r h2 => VS h2 (fun h3 => Q r h3)))
theorem cj_J4_size (G : gT) (l : Launch) (a0 : Nat) (h : Hp) (Q : Int32 → Hp → Prop) (hw : wj_J4_size a0 h Q) : Ct G l yJ4_size (ws_ yJ4_size cJ4_size 1 (some .int)) 1 12 0 0 [.ref a0] h (pI Q) := by
  refine Ct.vs (VS.mono hw fun h' hh => (c_J4_size G l a0 h' _ hh).post (fun v h2 hq => ?_))
  obtain ⟨r, hv, hq⟩ := hq
  exact hq.mono fun h3 hq3 => ⟨r, hv, hq3⟩
def wj_J4_get (a0 : Nat) (i1 : Int32) (h : Hp) (Q : Option Nat → Hp → Prop) : Prop := VS h (fun h' => w_J4_get a0 i1 h' (fun r h2 => VS h2 (fun h3 => Q r h3)))
theorem cj_J4_get (G : gT) (l : Launch) (a0 : Nat) (i1 : Int32) (h : Hp) (Q : Option Nat → Hp → Prop) (hw : wj_J4_get a0 i1 h Q) : Ct G l yJ4_get (ws_ yJ4_get cJ4_get 2 (some (.object "java/lang/Object"))) 3 54 0 0 [.ref a0, .int i1] h (pR Q) := by
  refine Ct.vs (VS.mono hw fun h' hh => (c_J4_get G l a0 i1 h' _ hh).post (fun v h2 hq => ?_))
  obtain ⟨r, hv, hq⟩ := hq
  exact hq.mono fun h3 hq3 => ⟨r, hv, hq3⟩
def wj_J4_contains (a0 : Nat) (a1 : Nat) (h : Hp) (Q : Bool → Hp → Prop) : Prop := VS h (fun h' => w_J4_contains a0 a1 h' (fun r h2 => VS h2 (fun h3 => Q r h3)))
theorem cj_J4_contains (G : gT) (l : Launch) (a0 : Nat) (a1 : Nat) (h : Hp) (Q : Bool → Hp → Prop) (hw : wj_J4_contains a0 a1 h Q) : Ct G l yJ4_contains (ws_ yJ4_contains cJ4_contains 2 (some .boolean)) 4 76 0 0 [.ref a0, .ref a1] h (pZ Q) := by
  refine Ct.vs (VS.mono hw fun h' hh => (c_J4_contains G l a0 a1 h' _ hh).post (fun v h2 hq => ?_))
  obtain ⟨r, hv, hq⟩ := hq
  exact hq.mono fun h3 hq3 => ⟨r, hv, hq3⟩
def wj_J4_indexOf (a0 : Nat) (a1 : Nat) (h : Hp) (Q : Int32 → Hp → Prop) : Prop := VS h (fun h' => w_J4_indexOf a0 a1 h' (fun r h2 => VS h2 (fun h3 => Q r h3)))
theorem cj_J4_indexOf (G : gT) (l : Launch) (a0 : Nat) (a1 : Nat) (h : Hp) (Q : Int32 → Hp → Prop) (hw : wj_J4_indexOf a0 a1 h Q) : Ct G l yJ4_indexOf (ws_ yJ4_indexOf cJ4_indexOf 4 (some .int)) 3 53 0 0 [.ref a0, .ref a1] h (pI Q) := by
  refine Ct.vs (VS.mono hw fun h' hh => (c_J4_indexOf G l a0 a1 h' _ hh).post (fun v h2 hq => ?_))
  obtain ⟨r, hv, hq⟩ := hq
  exact hq.mono fun h3 hq3 => ⟨r, hv, hq3⟩
def wj_J4_addLast (mc ms : Nat) (a0 : Nat) (a1 : Nat) (h : Hp) (Q : Hp → Prop) : Prop := VS h (fun h' => w_J4_addLast mc ms a0 a1 h' (fun h2 => VS h2 (fun h3 => Q h3)))
theorem cj_J4_addLast (G : gT) (l : Launch) (mc ms : Nat) (a0 : Nat) (a1 : Nat) (h : Hp) (Q : Hp → Prop) (hw : wj_J4_addLast mc ms a0 a1 h Q) : Ct G l yJ4_addLast (ws_ yJ4_addLast cJ4_addLast 2 (none)) 3 58 mc ms [.ref a0, .ref a1] h (pV Q) := by
  refine Ct.vs (VS.mono hw fun h' hh => (c_J4_addLast G l mc ms a0 a1 h' _ hh).post (fun v h2 hq => ?_))
  obtain ⟨hv, hq⟩ := hq
  exact hq.mono fun h3 hq3 => ⟨hv, hq3⟩
def wj_J4_add_2 (mc ms : Nat) (a0 : Nat) (i1 : Int32) (a2 : Nat) (h : Hp) (Q : Hp → Prop) : Prop := VS h (fun h' => w_J4_add_2 mc ms a0 i1 a2 h' (fun h2 => VS h2 (fun h3 => Q h3)))
theorem cj_J4_add_2 (G : gT) (l : Launch) (mc ms : Nat) (a0 : Nat) (i1 : Int32) (a2 : Nat) (h : Hp) (Q : Hp → Prop) (hw : wj_J4_add_2 mc ms a0 i1 a2 h Q) : Ct G l yJ4_add_2 (ws_ yJ4_add_2 cJ4_add_2 3 (none)) 3 59 mc ms [.ref a0, .int i1, .ref a2] h (pV Q) := by
  refine Ct.vs (VS.mono hw fun h' hh => (c_J4_add_2 G l mc ms a0 i1 a2 h' _ hh).post (fun v h2 hq => ?_))
  obtain ⟨hv, hq⟩ := hq
  exact hq.mono fun h3 hq3 => ⟨hv, hq3⟩
def wj_J9_init (mc ms : Nat) (a0 : Nat) (h : Hp) (Q : Hp → Prop) : Prop := VS h (fun h' => w_J9_init mc ms a0 h' (fun h2 => VS h2 (fun h3 => Q h3)))
theorem cj_J9_init (G : gT) (l : Launch) (mc ms : Nat) (a0 : Nat) (h : Hp) (Q : Hp → Prop) (hw : wj_J9_init mc ms a0 h Q) : Ct G l yJ9_init (ws_ yJ9_init cJ9_init 1 (none)) 2 32 mc ms [.ref a0] h (pV Q) := by
  refine Ct.vs (VS.mono hw fun h' hh => (c_J9_init G l mc ms a0 h' _ hh).post (fun v h2 hq => ?_))
  obtain ⟨hv, hq⟩ := hq
  exact hq.mono fun h3 hq3 => ⟨hv, hq3⟩
def wj_J9_size (a0 : Nat) (h : Hp) (Q : Int32 → Hp → Prop) : Prop := VS h (fun h' => w_J9_size a0 h' (fun r h2 => VS h2 (fun h3 => Q r h3)))
theorem cj_J9_size (G : gT) (l : Launch) (a0 : Nat) (h : Hp) (Q : Int32 → Hp → Prop) (hw : wj_J9_size a0 h Q) : Ct G l yJ9_size (ws_ yJ9_size cJ9_size 1 (some .int)) 2 34 0 0 [.ref a0] h (pI Q) := by
  refine Ct.vs (VS.mono hw fun h' hh => (c_J9_size G l a0 h' _ hh).post (fun v h2 hq => ?_))
  obtain ⟨r, hv, hq⟩ := hq
  exact hq.mono fun h3 hq3 => ⟨r, hv, hq3⟩
def wj_J9_clear (a0 : Nat) (h : Hp) (Q : Hp → Prop) : Prop := VS h (fun h' => w_J9_clear a0 h' (fun h2 => VS h2 (fun h3 => Q h3)))
theorem cj_J9_clear (G : gT) (l : Launch) (a0 : Nat) (h : Hp) (Q : Hp → Prop) (hw : wj_J9_clear a0 h Q) : Ct G l yJ9_clear (ws_ yJ9_clear cJ9_clear 1 (none)) 2 35 0 0 [.ref a0] h (pV Q) := by
  refine Ct.vs (VS.mono hw fun h' hh => (c_J9_clear G l a0 h' _ hh).post (fun v h2 hq => ?_))
  obtain ⟨hv, hq⟩ := hq
  exact hq.mono fun h3 hq3 => ⟨hv, hq3⟩
def wj_J9_pollFirst (a0 : Nat) (h : Hp) (Q : Option Nat → Hp → Prop) : Prop := VS h (fun h' => w_J9_pollFirst a0 h' (fun r h2 => VS h2 (fun h3 => Q r h3)))
theorem cj_J9_pollFirst (G : gT) (l : Launch) (a0 : Nat) (h : Hp) (Q : Option Nat → Hp → Prop) (hw : wj_J9_pollFirst a0 h Q) : Ct G l yJ9_pollFirst (ws_ yJ9_pollFirst cJ9_pollFirst 4 (some (.object "java/lang/Object"))) 2 33 0 0 [.ref a0] h (pR Q) := by
  refine Ct.vs (VS.mono hw fun h' hh => (c_J9_pollFirst G l a0 h' _ hh).post (fun v h2 hq => ?_))
  obtain ⟨r, hv, hq⟩ := hq
  exact hq.mono fun h3 hq3 => ⟨r, hv, hq3⟩
def wj_J9_addLast (a0 : Nat) (a1 : Nat) (h : Hp) (Q : Hp → Prop) : Prop := VS h (fun h' => w_J9_addLast a0 a1 h' (fun h2 => VS h2 (fun h3 => Q h3)))
theorem cj_J9_addLast (G : gT) (l : Launch) (a0 : Nat) (a1 : Nat) (h : Hp) (Q : Hp → Prop) (hw : wj_J9_addLast a0 a1 h Q) : Ct G l yJ9_addLast (ws_ yJ9_addLast cJ9_addLast 3 (none)) 2 33 0 0 [.ref a0, .ref a1] h (pV Q) := by
  refine Ct.vs (VS.mono hw fun h' hh => (c_J9_addLast G l a0 a1 h' _ hh).post (fun v h2 hq => ?_))
  obtain ⟨hv, hq⟩ := hq
  exact hq.mono fun h3 hq3 => ⟨hv, hq3⟩
def wj_J9_isEmpty (a0 : Nat) (h : Hp) (Q : Bool → Hp → Prop) : Prop := VS h (fun h' => w_J9_isEmpty a0 h' (fun r h2 => VS h2 (fun h3 => Q r h3)))
theorem cj_J9_isEmpty (G : gT) (l : Launch) (a0 : Nat) (h : Hp) (Q : Bool → Hp → Prop) (hw : wj_J9_isEmpty a0 h Q) : Ct G l yJ9_isEmpty (ws_ yJ9_isEmpty cJ9_isEmpty 1 (some .boolean)) 1 12 0 0 [.ref a0] h (pZ Q) := by
  refine Ct.vs (VS.mono hw fun h' hh => (c_J9_isEmpty G l a0 h' _ hh).post (fun v h2 hq => ?_))
  obtain ⟨r, hv, hq⟩ := hq
  exact hq.mono fun h3 hq3 => ⟨r, hv, hq3⟩
def wj_J9_pollLast (a0 : Nat) (h : Hp) (Q : Option Nat → Hp → Prop) : Prop := VS h (fun h' => w_J9_pollLast a0 h' (fun r h2 => VS h2 (fun h3 => Q r h3)))
theorem cj_J9_pollLast (G : gT) (l : Launch) (a0 : Nat) (h : Hp) (Q : Option Nat → Hp → Prop) (hw : wj_J9_pollLast a0 h Q) : Ct G l yJ9_pollLast (ws_ yJ9_pollLast cJ9_pollLast 4 (some (.object "java/lang/Object"))) 2 33 0 0 [.ref a0] h (pR Q) := by
  refine Ct.vs (VS.mono hw fun h' hh => (c_J9_pollLast G l a0 h' _ hh).post (fun v h2 hq => ?_))
  obtain ⟨r, hv, hq⟩ := hq
  exact hq.mono fun h3 hq3 => ⟨r, hv, hq3⟩
