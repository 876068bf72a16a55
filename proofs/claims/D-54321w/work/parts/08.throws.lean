set_option maxRecDepth 100000
/-! THROWS; CALLS OF METHODS THAT MAY THROW; HANDLERS; STATICS; CASTS; CLONE; CLASS OBJECTS -/
section
variable {G : gT} {l : Launch} {V : Hp → Nat → Nat → Nat → List (Nat × Value) → List Value → Prop} {cc : ByteArray} {nL : Nat} {own : String} {fr lo mc ms : Nat} {Q : Option Value → Hp → Prop} {X : Option (String → Hp → Prop)} {rt : Option FieldType} {hh : List (Nat × Nat × Nat × Nat)} {ini : Bool}
variable {h : Hp} {cn n pc : Nat} {L : List (Nat × Value)} {rest : List Value}
abbrev exN : List String := ["java/lang/RuntimeException", "java/lang/Exception"]
/-- the words of 'new E(); throw' stand among the carried ones -/
def ThrW (ik ic : Nat) (E : String) : Prop := Cond.classLink "CordSeals" ik E ∈ lw_all ∧ Cond.initialized E ∈ lw_all ∧ Bundle.fit E = true ∧ (∀ w ∈ vx_at0 "CordSeals" ic E exN, w ∈ lw_all ∨ w ∈ nwL ∨ w ∈ dcL.map Cond.declares) ∧ ∀ w ∈ Cond.classLink "CordSeals" ik E :: Cond.initialized E :: vx_at0 "CordSeals" ic E exN, vx_ot w = true
theorem r_throw0 {X0 : String → Hp → Prop} (C : Cx G l V cc nL "CordSeals" fr lo mc ms Q (some X0) rt [] ini) {ik ic : Nat} {E : String} (hW : ThrW ik ic E) (d0 : decode cc pc = .ok (.new ik, 3)) (d3 : decode cc (pc + 3) = .ok (.dup, 1)) (d4 : decode cc (pc + 4) = .ok (.invokespecial ic, 3)) (d7 : decode cc (pc + 7) = .ok (.athrow, 1)) (hfr : 5 < fr) (hlo : (rest.map fun v => v.category).sum + 81 ≤ lo) (hc : cn + 1 ≤ mc) (hn : n + 6 ≤ ms) (hw : X0 E h) : V h cn n pc L rest := by
  obtain ⟨p, e, s, m, args, below, meth, c, rfl, hx, hb, hml, hown, hts, hlk, hrt, hT, hZ, hz, hex, hini, hst⟩ := C
  intro H locs ls K hl'
  obtain ⟨w1, w2, w3, w4, w5⟩ := hW
  have hat : ∀ w ∈ vx_at0 "CordSeals" ic E exN, w.before args s = true := by
    intro w hw
    rcases w4 w hw with g | g | g
    · exact hts _ g
    · have hnw := hT.2.1 w g
      have hk := List.all_eq_true.mp nwL_ok w g
      cases w with
      | fieldLinkNest a i b n9 d9 h9 => exact va_Nw.use rfl hnw
      | methodLinkNest a i x h9 => exact va_Nw.use rfl hnw
      | castable C9 T9 => exact va_Nw.use rfl hnw
      | _ => cases hk
    · obtain ⟨x, hx1, rfl⟩ := List.mem_map.mp g
      exact va_Nw.use rfl (hT.2.2.2.2.2.1 x hx1)
  refine vx_throw0 (A := aA G) (names := exN) (own := "CordSeals") hx hb (hst rfl) hown w3 (by decide +kernel) (hts _ w1) (hts _ w2) hat w5 hZ.2.2.2.2.2.2.2.1 hZ.2.2.2.2.2.2.2.2.1 K.2 (hl'.1.trans hml.symm) d0 d3 d4 d7 (fun x hx9 => ?_) hfr hlo (Nat.le_trans hc (Nat.le_refl _)) hn hlk (fun t ht h1 h2 => ⟨⟨h, hw, ?_⟩, ?_⟩) K.2.2.2 hc hn
  · rw [hex (Or.inl rfl)] at hx9
    cases hx9
  · obtain ⟨τ, hlow, hτ⟩ := K.1
    exact ⟨τ, hlow, fun a e9 ha => (hτ a e9 ha).frame fun y hy hy2 => ⟨h2 y hy, rfl⟩⟩
  · refine ⟨Nat.le_trans K.2.1 h1, fun q h3 h4 => ?_⟩
    rw [h2 q (Nat.lt_of_lt_of_le h3 K.2.1)]
    exact K.2.2.1 q h3 h4
theorem tW_IAE : ThrW 65 67 "java/lang/IllegalArgumentException" := ⟨q1335, q94, by decide +kernel, by decide +kernel, by decide +kernel⟩
theorem tW_ISE : ThrW 71 73 "java/lang/IllegalStateException" := ⟨q1343, q95, by decide +kernel, by decide +kernel, by decide +kernel⟩
theorem tW_IOB : ThrW 68 70 "java/lang/IndexOutOfBoundsException" := ⟨q1602, q98, by decide +kernel, by decide +kernel, by decide +kernel⟩
/-- behind a call that may throw -/
theorem r_goX {p : Program} {e : Env} {s : State} {m : MethodId} {args : Array Value} {below : List Frame} {meth : Method} {c : Code} {F : State → Prop} {H : Heap} {locs : List Loc} {mc' ms' : Nat} {stk : List Value} {Q' : Option Value → Hp → Prop} {X' : String → Hp → Prop} {a : Array Value} {ls : Array Slot} (hl' : lv_has ls nL L) (hS : va_S (aA G) s.heap H locs) (hr : vx_Run p l e (rmO fr lo mc ms) s m args below meth c H locs cn n mc' ms' (F0 m pc ls stk) rest (QcG G Q' a) (XcG G X') (aA G))
    (kx : ∀ (E : String) (h' : Hp) (ce : Cell) (q9 : Addr) (H1 : Heap) (locs1 : List Loc) (vm1 : Vm), X' E h' → Wk G s h' H1 locs1 → H1[q9]? = some ce → ce.vm = .none → s.vm.findClass E = some ce.cls → s.vm.Alike vm1 → vx_W p l e (rmO fr lo mc ms) s m args below meth c H1 locs1 (cn + mc') (n + ms') F (F0 m pc ls rest) q9)
    (kk : ∀ (v : Option Value) (h' : Hp), Q' v h' → Vp G p l e fr lo s m args below meth c nL mc ms F h' (cn + mc') (n + ms') (pc + 3) L (v.toList ++ rest)) : W p l e (rmO fr lo mc ms) s m args below meth c H locs cn n F (F0 m pc ls stk) := by
  intro T hT X
  rcases hr T hT X with ⟨v, st₀, t, T', L9, h0, X', hL, e1, e2, ⟨⟨v', h', hv, hq, hwd⟩, hzz, hkk⟩, st⟩ | ⟨q, st₀, t, T', L9, E, ce, h0, X', hL, e1, e2, ⟨⟨h', hp, hH⟩, hzz, hkk⟩, hce, hcv, hcl, st⟩
  · cases hv
    rw [h0] at hzz hkk
    obtain ⟨t2, a1, b1⟩ := kk v h' hq T'.heap (locs ++ L9) ls ⟨by rw [e1]; exact hwd.2.2.1, Nat.le_trans hS.1 (by rw [e1]; exact hzz), fun q g1 g2 => by
        rw [e1, hkk q (Nat.lt_of_lt_of_le g1 hS.1) g2]; exact hS.2.1 q g1 g2, fun q hq => by
        rcases List.mem_append.mp hq with g | g
        · exact hS.2.2 q g
        · exact hL q g⟩ hl' T' rfl X'
    exact ⟨t2, st t2 a1, b1⟩
  · rw [h0] at hzz hkk
    obtain ⟨t2, a1, b1⟩ := kx E h' ce q T'.heap (locs ++ L9) T'.vm hp ⟨by rw [e1]; exact hH, Nat.le_trans hS.1 (by rw [e1]; exact hzz), fun q g1 g2 => by
        rw [e1, hkk q (Nat.lt_of_lt_of_le g1 hS.1) g2]; exact hS.2.1 q g1 g2, fun q hq => by
        rcases List.mem_append.mp hq with g | g
        · exact hS.2.2 q g
        · exact hL q g⟩ (by rw [e1]; exact hce) hcv hcl X'.warmed.alike T' rfl X'
    exact ⟨t2, st.trans a1, b1⟩
/-- not caught here -/
theorem r_callSX {X0 : String → Hp → Prop} (C : Cx G l V cc nL own fr lo mc ms Q (some X0) rt [] ini) {ix maxL fr' lo' mc' ms' : Nat} {y : MethodName} {cy : ByteArray} {ry : Option FieldType} {As : List Value} {stk : List Value} {Q' : Option Value → Hp → Prop} (hy : ySg y As.length = true) (w1 : Cond.methodLink own ix y ∈ lw_all) (w2 : Cond.static y ∈ lw_all) (w3 : Cond.initialized y.cls ∈ lw_all) (w5 : Cond.code y cy maxL ry ∈ lw_all) (hrm : rmOK fr lo fr' lo' maxL = true) (hcat : (rest.map fun v => v.category).sum ≤ 8) (d : decode cc pc = .ok (.invokestatic ix, 3)) (hstk : stk = As.reverse ++ rest)
    (hc : cn + mc' ≤ mc) (hn : n + ms' ≤ ms) (hM : CtX G l y (ws_ y cy maxL ry) fr' lo' mc' ms' As h Q' X0) (kk : ∀ (v : Option Value) (h' : Hp), Q' v h' → V h' (cn + mc') (n + ms') (pc + 3) L (v.toList ++ rest)) : V h cn n pc L stk := by
  obtain ⟨p, e, s, m, args, below, meth, c, rfl, hx, hb, hml, hown, hts, hlk, hrt, hT, hZ, hz, hex, hini, hst⟩ := C
  intro H locs ls K hl'
  subst hstk
  refine r_goX hl' K.2 (vx_runS (As := As) ⟨hx, hb, hml, hown, hts⟩ hM (va_cwS As.length hts (lw_S w1 w2 w3 w5) rfl rfl rfl (ySg.use hy) (rmOK.use hrm)) ⟨Wd.blind, fun U hU hW => ⟨rfl, Wd.of hT hZ hz K hW hU⟩⟩ rfl rfl hl'.1 rfl (lv_room hcat) d ⟨hc, hn⟩) (fun E h' ce q9 H1 locs1 vm1 hX K1 hce hcv hcl hvm => ?_) kk
  exact vx_out (fun x hx9 => by rw [hex (Or.inl rfl)] at hx9; cases hx9) hlk hce hcv hcl (fun t ht hW => ⟨⟨h', hX, by rw [ht]; exact K1.1⟩, K1.2.F ht⟩) K1.2.2.2 hc hn
theorem r_callVX {X0 : String → Hp → Prop} (C : Cx G l V cc nL own fr lo mc ms Q (some X0) rt [] ini) {ix ci a maxL fr' lo' mc' ms' : Nat} {y : MethodName} {cy : ByteArray} {ry : Option FieldType} {q : vw_C} {As : List Value} {stk : List Value} {Q' : Option Value → Hp → Prop} (hy : ySg y As.length = true) (hq : clAll[ci]? = some q) (hyc : y.cls = q.1) (w1 : Cond.methodLink own ix y ∈ lw_all) (w2 : Cond.instanceMethod y ∈ lw_all) (w3 : Cond.selects q.1 y y ∈ lw_all) (w4 : Cond.initialized q.1 ∈ lw_all) (w5 : Cond.code y cy maxL ry ∈ lw_all) (hrm : rmOK fr lo fr' lo' maxL = true) (hcat : (rest.map fun v => v.category).sum ≤ 8) (d : decode cc pc = .ok (.invokevirtual ix, 3)) (hstk : stk = As.reverse ++ .ref a :: rest)
    (hcl : hasC h a ci) (hc : cn + mc' ≤ mc) (hn : n + ms' ≤ ms) (hM : CtX G l y (ws_ y cy maxL ry) fr' lo' mc' ms' (.ref a :: As) h Q' X0) (kk : ∀ (v : Option Value) (h' : Hp), Q' v h' → V h' (cn + mc') (n + ms') (pc + 3) L (v.toList ++ rest)) : V h cn n pc L stk := by
  obtain ⟨p, e, s, m, args, below, meth, c, rfl, hx, hb, hml, hown, hts, hlk, hrt, hT, hZ, hz, hex, hini, hst⟩ := C
  intro H locs ls K hl'
  subst hstk
  obtain ⟨g1, g2, g3⟩ := ySg.use hy
  refine r_goX hl' K.2 (vx_runV (As := As) (C := q.1) ⟨hx, hb, hml, hown, hts⟩ hM (cwV As.length hts (lw_V w1 w2 w3 w4 w5) rfl rfl rfl ⟨hyc, g1, g2, g3⟩ (rmOK.use hrm)) ⟨Wd.blind, K.1.recv hT hq hcl, fun U hU hW => ⟨rfl, Wd.of hT hZ hz K hW hU⟩⟩ rfl rfl hl'.1 rfl (lv_room hcat) d ⟨hc, hn⟩) (fun E h' ce q9 H1 locs1 vm1 hX K1 hce hcv hcl hvm => ?_) kk
  exact vx_out (fun x hx9 => by rw [hex (Or.inl rfl)] at hx9; cases hx9) hlk hce hcv hcl (fun t ht hW => ⟨⟨h', hX, by rw [ht]; exact K1.1⟩, K1.2.F ht⟩) K1.2.2.2 hc hn
/-- the handler that an exception of class E comes to, and what is owed there -/
def CatchK (V : Hp → Nat → Nat → Nat → List (Nat × Value) → List Value → Prop) (own : String) (hh : List (Nat × Nat × Nat × Nat)) (pc cn n : Nat) (L : List (Nat × Value)) (E : String) (h' : Hp) : Prop :=
  ∃ (pre : List ExceptionTableEntry) (x : ExceptionTableEntry) (suf : List ExceptionTableEntry) (nm : String), tableOf hh = pre ++ x :: suf ∧ (∀ z ∈ pre, covers z pc = false ∨ (z.catchType ≠ 0 ∧ ∃ nm' : String, Cond.classLink own z.catchType nm' ∈ lw_all ∧ (E, nm') ∈ ncL)) ∧ covers x pc = true ∧ x.catchType ≠ 0 ∧ Cond.classLink own x.catchType nm ∈ lw_all ∧ Cond.castable E nm ∈ nwL ∧ ∀ q : Nat, V h' cn n x.handlerPc L [.ref q]
theorem r_callVH (C : Cx G l V cc nL own fr lo mc ms Q X rt hh ini) (hne : hh ≠ []) {ix ci a maxL fr' lo' mc' ms' : Nat} {y : MethodName} {cy : ByteArray} {ry : Option FieldType} {q : vw_C} {As : List Value} {stk : List Value} {Q' : Option Value → Hp → Prop} {X' : String → Hp → Prop} (hy : ySg y As.length = true) (hq : clAll[ci]? = some q) (hyc : y.cls = q.1) (w1 : Cond.methodLink own ix y ∈ lw_all) (w2 : Cond.instanceMethod y ∈ lw_all) (w3 : Cond.selects q.1 y y ∈ lw_all) (w4 : Cond.initialized q.1 ∈ lw_all) (w5 : Cond.code y cy maxL ry ∈ lw_all) (hrm : rmOK fr lo fr' lo' maxL = true) (hcat : (rest.map fun v => v.category).sum ≤ 8) (d : decode cc pc = .ok (.invokevirtual ix, 3)) (hstk : stk = As.reverse ++ .ref a :: rest)
    (hcl : hasC h a ci) (hc : cn + mc' ≤ mc) (hn : n + ms' ≤ ms) (hM : CtX G l y (ws_ y cy maxL ry) fr' lo' mc' ms' (.ref a :: As) h Q' X') (kx : ∀ (E : String) (h' : Hp), X' E h' → CatchK V own hh pc (cn + mc') (n + ms') L E h') (kk : ∀ (v : Option Value) (h' : Hp), Q' v h' → V h' (cn + mc') (n + ms') (pc + 3) L (v.toList ++ rest)) : V h cn n pc L stk := by
  obtain ⟨p, e, s, m, args, below, meth, c, rfl, hx, hb, hml, hown, hts, hlk, hrt, hT, hZ, hz, hex, hini, hst⟩ := C
  intro H locs ls K hl'
  subst hstk
  obtain ⟨g1, g2, g3⟩ := ySg.use hy
  refine r_goX hl' K.2 (vx_runV (As := As) (C := q.1) ⟨hx, hb, hml, hown, hts⟩ hM (cwV As.length hts (lw_V w1 w2 w3 w4 w5) rfl rfl rfl ⟨hyc, g1, g2, g3⟩ (rmOK.use hrm)) ⟨Wd.blind, K.1.recv hT hq hcl, fun U hU hW => ⟨rfl, Wd.of hT hZ hz K hW hU⟩⟩ rfl rfl hl'.1 rfl (lv_room hcat) d ⟨hc, hn⟩) (fun E h' ce q9 H1 locs1 vm1 hX K1 hce hcv hcl hvm => ?_) kk
  obtain ⟨pre, x, suf, nm, k1, k2, k3, k4, k5, k6, k7⟩ := kx E h' hX
  refine vx_catch hown pre x suf ((hex (Or.inr hne)).trans k1) (fun z hz9 => ?_) k3 k4 (hts _ k5) (va_Nw.use rfl (hT.2.1 _ k6)) hce hcv hcl (k7 q9 H1 locs1 ls K1 hl')
  rcases k2 z hz9 with g | ⟨g, nm', g1, g2⟩
  · exact Or.inl g
  · exact Or.inr ⟨g, nm', hts _ g1, hT.2.2.2.2.1 _ g2⟩
/-! casts, class objects, statics -/
theorem r_castN (C : Cx G l V cc nL own fr lo mc ms Q X rt hh ini) {ix : Nat} (d : decode cc pc = .ok (.checkcast ix, 3)) (kk : V h cn n (pc + 3) L (.null :: rest)) : V h cn n pc L (.null :: rest) := by
  obtain ⟨p, e, s, m, args, below, meth, c, rfl, hx, hb, hml, hown, hts, hlk, hrt, hT, hZ, hz, hex, hini, hst⟩ := C
  intro H locs ls K hl'
  exact lv_castN hx hb d (kk H locs ls K hl')
/-- a cast of null or of an object of just that class -/
theorem r_cast (C : Cx G l V cc nL own fr lo mc ms Q X rt hh ini) {ix ci : Nat} {q : vw_C} {x : Option Nat} (hq : clAll[ci]? = some q) (w1 : Cond.classLink own ix q.1 ∈ lw_all) (d : decode cc pc = .ok (.checkcast ix, 3)) (hw : ∀ a : Nat, x = some a → hasC h a ci) (kk : V h cn n (pc + 3) L (va_rf x :: rest)) : V h cn n pc L (va_rf x :: rest) := by
  obtain ⟨p, e, s, m, args, below, meth, c, rfl, hx, hb, hml, hown, hts, hlk, hrt, hT, hZ, hz, hex, hini, hst⟩ := C
  intro H locs ls K hl'
  cases x with
  | none => exact lv_castN hx hb d (kk H locs ls K hl')
  | some a => exact va_castS hx hb hown (hts _ w1) (hT.kn hq).2 (K.1.recv hT hq (hw a rfl)) d (kk H locs ls K hl')
/-- instanceof of an object of just that class -/
theorem r_inst (C : Cx G l V cc nL own fr lo mc ms Q X rt hh ini) {ix ci a : Nat} {q : vw_C} (hq : clAll[ci]? = some q) (w1 : Cond.classLink own ix q.1 ∈ lw_all) (d : decode cc pc = .ok (.instanceof ix, 3)) (hw : hasC h a ci) (kk : V h cn n (pc + 3) L (.int 1 :: rest)) : V h cn n pc L (.ref a :: rest) := by
  obtain ⟨p, e, s, m, args, below, meth, c, rfl, hx, hb, hml, hown, hts, hlk, hrt, hT, hZ, hz, hex, hini, hst⟩ := C
  intro H locs ls K hl'
  exact va_instS hx hb hown (hts _ w1) (hT.kn hq).2 (K.1.recv hT hq hw) d (kk H locs ls K hl')
/-- a cast of a row of objects to its own class -/
theorem r_castA (C : Cx G l V cc nL own fr lo mc ms Q X rt hh ini) {ix a t : Nat} {v : vp_A} {Cn nm : String} (hty : atys t = .object Cn) (hnm : "[" ++ (FieldType.object Cn).toString = nm) (w1 : Cond.classLink own ix nm ∈ lw_all) (d : decode cc pc = .ok (.checkcast ix, 3)) (hw : h a = some (eA t v)) (kk : V h cn n (pc + 3) L (.ref a :: rest)) : V h cn n pc L (.ref a :: rest) := by
  obtain ⟨p, e, s, m, args, below, meth, c, rfl, hx, hb, hml, hown, hts, hlk, hrt, hT, hZ, hz, hex, hini, hst⟩ := C
  intro H locs ls K hl'
  obtain ⟨g1, g2, g3⟩ := K.1.arr hw
  have h2 := (hT.at g2).2
  rw [hty] at h2
  obtain ⟨kA', comp', -, -, -, h5⟩ := h2
  exact va_castA hx hb hown (hts _ w1) (oneA_P g3) 0 rfl (by rw [← hnm]; exact h5) d (kk H locs ls K hl')
theorem r_ldcM (C : Cx G l V cc nL own fr lo mc ms Q X rt hh ini) {ix : Nat} (w1 : Cond.classLink own ix "[Ljava/lang/Object;" ∈ lw_all) (d : decode cc pc = .ok (.ldc ix, 2)) (kk : V h cn n (pc + 2) L (.ref (gMi G) :: rest)) : V h cn n pc L rest := by
  obtain ⟨p, e, s, m, args, below, meth, c, rfl, hx, hb, hml, hown, hts, hlk, hrt, hT, hZ, hz, hex, hini, hst⟩ := C
  intro H locs ls K hl'
  exact va_ldcM hx hb hown (hts _ w1) hT.2.2.2.2.2.2 d (kk H locs ls K hl')
abbrev gClsN : MethodName := ⟨"java/lang/Object", "getClass", "()Ljava/lang/Class;"⟩
theorem r_getC (C : Cx G l V cc nL own fr lo mc ms Q X rt hh ini) {ix a : Nat} {v : vp_A} (w1 : Cond.methodLink own ix gClsN ∈ lw_all) (w2 : Cond.selects "[Ljava/lang/Object;" gClsN gClsN ∈ lw_all) (w3 : Cond.instanceMethod gClsN ∈ lw_all) (w4 : Cond.native gClsN ∈ lw_all) (w5 : gClsN ∈ dcL) (hfr : 1 ≤ fr) (hlo : (rest.map fun v => v.category).sum + 14 ≤ lo) (d : decode cc pc = .ok (.invokevirtual ix, 3)) (hw : h a = some (eA 2 v)) (kk : V h cn n (pc + 3) L (.ref (gMi G) :: rest)) : V h cn n pc L (.ref a :: rest) := by
  obtain ⟨p, e, s, m, args, below, meth, c, rfl, hx, hb, hml, hown, hts, hlk, hrt, hT, hZ, hz, hex, hini, hst⟩ := C
  intro H locs ls K hl'
  obtain ⟨g1, g2, g3⟩ := K.1.arr hw
  obtain ⟨kA', comp', -, -, -, h5⟩ := (hT.at g2).2
  have hcell : H[a]? = some (vp_cell (gA G 2) v) := g3
  exact va_getC hx hb (hml.trans hl'.1.symm) hown (hts _ w1) (va_Nw.use rfl (hT.2.2.2.2.2.1 _ w5)) (hts _ w2) (hts _ w3) (hts _ w4) hT.2.2.2.2.2.2 ⟨_, hcell, by obtain ⟨z, f | f | f | f | f⟩ := v <;> rfl, by
    have : (vp_cell (gA G 2) v).cls = gA G 2 := by obtain ⟨z, f | f | f | f | f⟩ := v <;> rfl
    rw [this]
    exact h5⟩ hfr hlo d (kk H locs ls K hl')
theorem r_getE0 (C : Cx G l V cc nL own fr lo mc ms Q X rt hh ini) {ix : Nat} (w1 : Cond.fieldLink own ix "java/util/ArrayList" "DEFAULTCAPACITY_EMPTY_ELEMENTDATA" "[Ljava/lang/Object;" ∈ lw_all) (d : decode cc pc = .ok (.getstatic ix, 3)) (kk : V h cn n (pc + 3) L (.ref (gE0 G) :: rest)) : V h cn n pc L rest := by
  obtain ⟨p, e, s, m, args, below, meth, c, rfl, hx, hb, hml, hown, hts, hlk, hrt, hT, hZ, hz, hex, hini, hst⟩ := C
  intro H locs ls K hl'
  exact va_gets hx hb hZ.1 K.2 hown (hts _ w1) (fun _ z => z) d (kk H locs ls K hl')
theorem r_getAss (C : Cx G l V cc nL own fr lo mc ms Q X rt hh ini) {ix : Nat} (w1 : Cond.fieldLink own ix "java/util/BitSet" "$assertionsDisabled" "Z" ∈ lw_all) (d : decode cc pc = .ok (.getstatic ix, 3)) (kk : V h cn n (pc + 3) L (.int 1 :: rest)) : V h cn n pc L rest := by
  obtain ⟨p, e, s, m, args, below, meth, c, rfl, hx, hb, hml, hown, hts, hlk, hrt, hT, hZ, hz, hex, hini, hst⟩ := C
  intro H locs ls K hl'
  exact va_gets hx hb hZ.2.2.2.2.2.2.1 K.2 hown (hts _ w1) (fun _ z => z) d (kk H locs ls K hl')
/-- the length of ArrayList's empty row -/
theorem r_alenE0 (C : Cx G l V cc nL own fr lo mc ms Q X rt hh ini) (d : decode cc pc = .ok (.arraylength, 1)) (kk : V h cn n (pc + 1) L (.int 0 :: rest)) : V h cn n pc L (.ref (gE0 G) :: rest) := by
  obtain ⟨p, e, s, m, args, below, meth, c, rfl, hx, hb, hml, hown, hts, hlk, hrt, hT, hZ, hz, hex, hini, hst⟩ := C
  intro H locs ls K hl'
  exact va_tlen hx hb hZ.2.1 K.2 (by decide) d (kk H locs ls K hl')
/-- the law's script -/
theorem r_scrLd (C : Cx G l V cc nL own fr lo mc ms Q X rt hh ini) {i : Int32} (hi : vp_in i (gSn G)) (d : decode cc pc = .ok (.iaload, 1)) (kk : V h cn n (pc + 1) L (.int (gSx G i.toNatClampNeg) :: rest)) : V h cn n pc L (.int i :: .ref (gSb G) :: rest) := by
  obtain ⟨p, e, s, m, args, below, meth, c, rfl, hx, hb, hml, hown, hts, hlk, hrt, hT, hZ, hz, hex, hini, hst⟩ := C
  intro H locs ls K hl'
  have h1 := hZ.2.2.2.2.2.2.2.2.2
  exact va_sld hx hb h1.1 (Nat.lt_of_lt_of_le h1.2 hz) (Nat.not_le.mpr h1.2) K.2 hi d (kk H locs ls K hl')
theorem r_scrLen (C : Cx G l V cc nL own fr lo mc ms Q X rt hh ini) (d : decode cc pc = .ok (.arraylength, 1)) (kk : V h cn n (pc + 1) L (.int (nI (gSn G)) :: rest)) : V h cn n pc L (.ref (gSb G) :: rest) := by
  obtain ⟨p, e, s, m, args, below, meth, c, rfl, hx, hb, hml, hown, hts, hlk, hrt, hT, hZ, hz, hex, hini, hst⟩ := C
  intro H locs ls K hl'
  have h1 := hZ.2.2.2.2.2.2.2.2.2
  exact va_slen hx hb h1.1 (Nat.lt_of_lt_of_le h1.2 hz) (Nat.not_le.mpr h1.2) K.2 d (kk H locs ls K hl')
/-- settings.clone() -/
theorem r_cloneI (C : Cx G l V cc nL own fr lo mc ms Q X rt hh ini) {ix a N : Nat} {f : Nat → Int32} (w1 : Cond.methodLink own ix ⟨"[I", "clone", "()Ljava/lang/Object;"⟩ ∈ lw_all) (w2 : Cond.sameMethod "[I" "java/lang/Object" "clone" "()Ljava/lang/Object;" ∈ lw_all) (w3 : Cond.native ⟨"java/lang/Object", "clone", "()Ljava/lang/Object;"⟩ ∈ lw_all) (w4 : Cond.instanceMethod ⟨"java/lang/Object", "clone", "()Ljava/lang/Object;"⟩ ∈ lw_all) (w5 : Cond.selects "[I" ⟨"[I", "clone", "()Ljava/lang/Object;"⟩ ⟨"java/lang/Object", "clone", "()Ljava/lang/Object;"⟩ ∈ lw_all) (w6 : Cond.castable "[I" "java/lang/Cloneable" ∈ nwL) (hfr : 1 ≤ fr) (hlo : (rest.map fun v => v.category).sum + 14 ≤ lo) (hc : cn + 1 ≤ mc) (hn : n + N ≤ ms) (d : decode cc pc = .ok (.invokevirtual ix, 3)) (hw : h a = some (aI N f)) {K9 : Nat → Hp → Prop} (hk : nwA h 0 (N, .inl f) K9) (kk : ∀ (q : Nat) (h' : Hp), K9 q h' → V h' (cn + 1) (n + N) (pc + 3) L (.ref q :: rest)) : V h cn n pc L (.ref a :: rest) := by
  obtain ⟨p, e, s, m, args, below, meth, c, rfl, hx, hb, hml, hown, hts, hlk, hrt, hT, hZ, hz, hex, hini, hst⟩ := C
  intro H locs ls K hl'
  obtain ⟨g1, g2, g3⟩ := K.1.arr hw
  have hcell : H[a]? = some (vp_cell (gA G 0) (N, .inl f)) := g3
  have hnm : s.vm.findClass "[I" = some (gA G 0) := va_nm_int (hT.at g2).2
  obtain ⟨c0, t0', f1, f2, f3⟩ := Cond.castable_spec (va_Nw.use (A := args) rfl (hT.2.1 _ w6))
  cases hnm.symm.trans f1
  have hsz : (vp_cell (gA G 0) (N, .inl f)).slots.size = N := arrV_size _ _ _
  intro T hTh X
  have hcellT : T.heap[a]? = some (vp_cell (gA G 0) (N, .inl f)) := by rw [hTh]; exact hcell
  obtain ⟨-, kA, hkA, comp, hkind⟩ := State.isArrayOf_alike X.warmed.alike ((hT.at g2).1 0 (fun _ => .null))
  obtain ⟨-, kS, hkS, compS, hkindS⟩ := (hT.at g2).1 0 (fun _ => .null)
  obtain ⟨vm', X', st⟩ := X.cloneArray hx hown (hts _ w1) (hts _ w2) (hts _ w3) (hts _ w4) (hts _ w5) (a := a) (cell := vp_cell (gA G 0) (N, .inl f)) hcellT (fun k h => by cases h) (fun h => by cases h) hnm f2 f3
    (fun i v hv => by
      show T.fitsSlot (gA G 0) .none i v = true
      have hk' : T.vm.classes[gA G 0]? = some kA := hkA
      have hfit : fits (atys 0) v = true := by
        have hv9 : (arrV (gA G 0) N (fun j => .int (f j))).slots[i]? = some v := hv
        by_cases hi : i < N
        · rw [arrV_read _ _ hi] at hv9
          cases hv9
          rfl
        · have := (Array.getElem?_eq_some_iff.mp hv9).1
          rw [arrV_size] at this
          exact absurd this hi
      simpa [State.fitsSlot, State.slotType?, hk', hkind] using hfit)
    (g := F0 m pc ls (.ref a :: rest)) rfl (by rw [hl'.1, hml]) rfl (by rw [hb]; exact d) hfr (by show 2 * 0 + _ + 14 ≤ lo; omega) hc (by rw [hsz]; exact hn) (hloader := Vm.clonesLoader_of_array hkS hkindS)
  rw [hsz] at X'
  have hcellE : ({ cls := (vp_cell (gA G 0) (N, .inl f)).cls, slots := (vp_cell (gA G 0) (N, .inl f)).slots } : Cell) = vp_cell (gA G 0) (N, .inl f) := rfl
  rw [hcellE] at X'
  generalize hH1 : H.push (vp_cell (gA G 0) (N, .inl f)) = H1
  have z1 : H1.size = H.size + 1 := by rw [← hH1, Array.size_push]
  have e1 : H1[H.size]? = some (vp_cell (gA G 0) (N, .inl f)) := by rw [← hH1, Array.getElem?_push_size]
  have o1 : ∀ q : Nat, q < H.size → H1[q]? = H[q]? := fun q hq => by rw [← hH1, Array.getElem?_push, if_neg (Nat.ne_of_lt hq)]
  obtain ⟨p1, p2⟩ := K.push (e1 := aI N f) hz z1 o1 (fun τ hτ => ⟨hτ, Nat.le_trans hz K.2.1, by decide, e1⟩)
  obtain ⟨t, b1, b2⟩ := kk _ _ (hk _ p1) H1 _ ls p2 hl' ((T.setVm vm').pushCell (vp_cell (gA G 0) (N, .inl f))) (by rw [← hH1, ← hTh]; rfl) X'
  refine ⟨t, st t ?_, b2⟩
  rw [hcellE, hTh]
  exact b1
end
