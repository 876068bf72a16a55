set_option maxRecDepth 100000
/-! CALLS, RETURNS, THROWS, CASTS, STATICS -/
section
variable {G : gT} {l : Launch} {V : Hp → Nat → Nat → Nat → List (Nat × Value) → List Value → Prop} {cc : ByteArray} {nL : Nat} {own : String} {fr lo mc ms : Nat} {Q : Option Value → Hp → Prop} {X : Option (String → Hp → Prop)} {rt : Option FieldType} {hh : List (Nat × Nat × Nat × Nat)} {ini : Bool}
variable {h : Hp} {cn n pc : Nat} {L : List (Nat × Value)} {rest : List Value}
/-! ends -/
theorem r_end {p : Program} {e : Env} {s : State} {m : MethodId} {args : Array Value} {below : List Frame} {meth : Method} {c : Code} {H : Heap} {locs : List Loc} {g : JFrame} (hc : cn ≤ mc) (hn : n ≤ ms) (k : W p l e (rmO fr lo mc ms) s m args below meth c H locs mc ms (MQ below (QcG G Q) args s mc ms (aA G)) g) : W p l e (rmO fr lo mc ms) s m args below meth c H locs cn n (fin G Q X below args s mc ms) g := by
  refine W.widen (k := mc) (n := ms) hc hn ?_
  cases X with
  | none => exact k
  | some X => exact vx_ret k
theorem QcG.of {s t : State} {H : Heap} {locs : List Loc} {a : Array Value} {v : Option Value} (hT : Tb G s) (hZ : St G s s.heap) (hz : G.1 ≤ s.heap.size) (K : Wk G s h H locs) (hW : s.WarmedH t.vm) (ht : t.heap = H) (hq : Q v h) : QcG G Q a s (.returned v) t :=
  ⟨⟨v, h, rfl, hq, Wd.of hT hZ hz K hW ht⟩, K.2.F ht⟩
theorem r_ireturn (C : Cx G l V cc nL own fr lo mc ms Q X (some .int) hh ini) {x : Int32} (d : decode cc pc = .ok (.ireturn, 1)) (hc : cn ≤ mc) (hn : n ≤ ms) (hw : Q (some (.int x)) h) : V h cn n pc L [.int x] := by
  obtain ⟨p, e, s, m, args, below, meth, c, rfl, hx, hb, hml, hown, hts, hlk, hrt, hT, hZ, hz, hex, hini, hst⟩ := C
  intro H locs ls K hl'
  exact r_end hc hn (W.iret hx hb hrt (fun t ht hW => QcG.of hT hZ hz K hW ht hw) K.2.2.2 d)
theorem r_zreturn (C : Cx G l V cc nL own fr lo mc ms Q X (some .boolean) hh ini) {x : Bool} (d : decode cc pc = .ok (.ireturn, 1)) (hc : cn ≤ mc) (hn : n ≤ ms) (hw : Q (some (.int (bI x))) h) : V h cn n pc L [.int (bI x)] := by
  obtain ⟨p, e, s, m, args, below, meth, c, rfl, hx, hb, hml, hown, hts, hlk, hrt, hT, hZ, hz, hex, hini, hst⟩ := C
  intro H locs ls K hl'
  exact r_end hc hn (W.zret (v := bI x) hx hb hrt (by cases x <;> rfl) (fun t ht hW => QcG.of hT hZ hz K hW ht hw) K.2.2.2 d)
theorem r_lreturn (C : Cx G l V cc nL own fr lo mc ms Q X (some .long) hh ini) {x : Int64} (d : decode cc pc = .ok (.lreturn, 1)) (hc : cn ≤ mc) (hn : n ≤ ms) (hw : Q (some (.long x)) h) : V h cn n pc L [.long x] := by
  obtain ⟨p, e, s, m, args, below, meth, c, rfl, hx, hb, hml, hown, hts, hlk, hrt, hT, hZ, hz, hex, hini, hst⟩ := C
  intro H locs ls K hl'
  exact r_end hc hn (W.lret hx hb hrt (fun t ht hW => QcG.of hT hZ hz K hW ht hw) K.2.2.2 d)
theorem r_return (C : Cx G l V cc nL own fr lo mc ms Q X none hh ini) (d : decode cc pc = .ok (.return_, 1)) (hc : cn ≤ mc) (hn : n ≤ ms) (hw : Q none h) : V h cn n pc L [] := by
  obtain ⟨p, e, s, m, args, below, meth, c, rfl, hx, hb, hml, hown, hts, hlk, hrt, hT, hZ, hz, hex, hini, hst⟩ := C
  intro H locs ls K hl'
  exact r_end hc hn (W.vret hx hb hrt (fun t ht hW => QcG.of hT hZ hz K hW ht hw) K.2.2.2 d)
theorem r_areturn {rt' : FieldType} (C : Cx G l V cc nL own fr lo mc ms Q X (some rt') hh ini) {x : Option Nat} (hrf : (∃ z, rt' = .object z) ∨ ∃ t, rt' = .array t) (d : decode cc pc = .ok (.areturn, 1)) (hc : cn ≤ mc) (hn : n ≤ ms) (hw : Q (some (va_rf x)) h) : V h cn n pc L [va_rf x] := by
  obtain ⟨p, e, s, m, args, below, meth, c, rfl, hx, hb, hml, hown, hts, hlk, hrt, hT, hZ, hz, hex, hini, hst⟩ := C
  intro H locs ls K hl'
  exact r_end hc hn (W.aret hx hb hrt hrf (va_rf_or x) (fun t ht hW => QcG.of hT hZ hz K hW ht hw) K.2.2.2 d)
/-! calls -/
theorem r_go {p : Program} {e : Env} {s : State} {m : MethodId} {args : Array Value} {below : List Frame} {meth : Method} {c : Code} {F : State → Prop} {H : Heap} {locs : List Loc} {mc' ms' : Nat} {stk : List Value} {Q' : Option Value → Hp → Prop} {a : Array Value} {ls : Array Slot} (hz : G.1 ≤ s.heap.size) (hl' : lv_has ls nL L) (hS : va_S (aA G) s.heap H locs) (hr : va_Run p l e (rmO fr lo mc ms) s m args below meth c H locs cn n mc' ms' (F0 m pc ls stk) rest (QcG G Q' a) (aA G)) (kk : ∀ (v : Option Value) (h' : Hp), Q' v h' → Vp G p l e fr lo s m args below meth c nL mc ms F h' (cn + mc') (n + ms') (pc + 3) L (v.toList ++ rest)) : W p l e (rmO fr lo mc ms) s m args below meth c H locs cn n F (F0 m pc ls stk) := by
  intro T hT X
  obtain ⟨v, st₀, t, T', L9, h0, X', hL, e1, e2, ⟨⟨v', h', hv, hq, hwd⟩, hzz, hkk⟩, st⟩ := hr T hT X
  cases hv
  rw [h0] at hzz hkk
  obtain ⟨t2, a1, b1⟩ := kk v h' hq T'.heap (locs ++ L9) ls ⟨by rw [e1]; exact hwd.2.2.1, Nat.le_trans hS.1 (by rw [e1]; exact hzz), fun q g1 g2 => by
      rw [e1, hkk q (Nat.lt_of_lt_of_le g1 hS.1) g2]; exact hS.2.1 q g1 g2, fun q hq => by
      rcases List.mem_append.mp hq with g | g
      · exact hS.2.2 q g
      · exact hL q g⟩ hl' T' rfl X'
  exact ⟨t2, st t2 a1, b1⟩
theorem r_go5 {p : Program} {e : Env} {s : State} {m : MethodId} {args : Array Value} {below : List Frame} {meth : Method} {c : Code} {F : State → Prop} {H : Heap} {locs : List Loc} {mc' ms' : Nat} {stk : List Value} {Q' : Option Value → Hp → Prop} {a : Array Value} {ls : Array Slot} (hz : G.1 ≤ s.heap.size) (hl' : lv_has ls nL L) (hS : va_S (aA G) s.heap H locs) (hr : va_Run5 p l e (rmO fr lo mc ms) s m args below meth c H locs cn n mc' ms' (F0 m pc ls stk) rest (QcG G Q' a) (aA G)) (kk : ∀ (v : Option Value) (h' : Hp), Q' v h' → Vp G p l e fr lo s m args below meth c nL mc ms F h' (cn + mc') (n + ms') (pc + 5) L (v.toList ++ rest)) : W p l e (rmO fr lo mc ms) s m args below meth c H locs cn n F (F0 m pc ls stk) := by
  intro T hT X
  obtain ⟨v, st₀, t, T', L9, h0, X', hL, e1, e2, ⟨⟨v', h', hv, hq, hwd⟩, hzz, hkk⟩, st⟩ := hr T hT X
  cases hv
  rw [h0] at hzz hkk
  obtain ⟨t2, a1, b1⟩ := kk v h' hq T'.heap (locs ++ L9) ls ⟨by rw [e1]; exact hwd.2.2.1, Nat.le_trans hS.1 (by rw [e1]; exact hzz), fun q g1 g2 => by
      rw [e1, hkk q (Nat.lt_of_lt_of_le g1 hS.1) g2]; exact hS.2.1 q g1 g2, fun q hq => by
      rcases List.mem_append.mp hq with g | g
      · exact hS.2.2 q g
      · exact hL q g⟩ hl' T' rfl X'
  exact ⟨t2, st t2 a1, b1⟩
/-- what a call asks of room: the callee's frames, its locals -/
def rmOK (fr lo fr' lo' maxL : Nat) : Bool := decide (fr' + 1 ≤ fr) && decide (8 + (maxL + 11) + lo' ≤ lo)
theorem rmOK.use {fr' lo' maxL mc' ms' : Nat} (hk : rmOK fr lo fr' lo' maxL = true) : (rmO fr' lo' mc' ms').frames + 1 ≤ (rmO fr lo mc ms).frames ∧ 8 + (maxL + 11) + (rmO fr' lo' mc' ms').locals ≤ (rmO fr lo mc ms).locals := by
  unfold rmOK at hk
  rw [Bool.and_eq_true] at hk
  exact ⟨of_decide_eq_true hk.1, of_decide_eq_true hk.2⟩
def ySg (y : MethodName) (k : Nat) : Bool := decide (y.cls ≠ "java/lang/invoke/MethodHandle") && (decide (y.cls ≠ "java/lang/invoke/VarHandle") && decide ((parseMethodDescriptor y.desc).map (fun d => d.parameters.length) = some k))
theorem ySg.use {y : MethodName} {k : Nat} (hk : ySg y k = true) : y.cls ≠ "java/lang/invoke/MethodHandle" ∧ y.cls ≠ "java/lang/invoke/VarHandle" ∧ (parseMethodDescriptor y.desc).map (fun d => d.parameters.length) = some k := by
  unfold ySg at hk
  rw [Bool.and_eq_true, Bool.and_eq_true] at hk
  exact ⟨of_decide_eq_true hk.1, of_decide_eq_true hk.2.1, of_decide_eq_true hk.2.2⟩
/-- invokevirtual of the class's own method -/
theorem r_callV (C : Cx G l V cc nL own fr lo mc ms Q X rt hh ini) {ix ci a maxL fr' lo' mc' ms' : Nat} {y : MethodName} {cy : ByteArray} {ry : Option FieldType} {q : vw_C} {As : List Value} {stk : List Value} {Q' : Option Value → Hp → Prop} (hy : ySg y As.length = true) (hq : clAll[ci]? = some q) (hyc : y.cls = q.1) (w1 : Cond.methodLink own ix y ∈ lw_all) (w2 : Cond.instanceMethod y ∈ lw_all) (w3 : Cond.selects q.1 y y ∈ lw_all) (w4 : Cond.initialized q.1 ∈ lw_all) (w5 : Cond.code y cy maxL ry ∈ lw_all) (hrm : rmOK fr lo fr' lo' maxL = true) (hcat : (rest.map fun v => v.category).sum ≤ 8) (d : decode cc pc = .ok (.invokevirtual ix, 3)) (hstk : stk = As.reverse ++ .ref a :: rest)
    (hcl : hasC h a ci) (hc : cn + mc' ≤ mc) (hn : n + ms' ≤ ms) (hM : Ct G l y (ws_ y cy maxL ry) fr' lo' mc' ms' (.ref a :: As) h Q') (kk : ∀ (v : Option Value) (h' : Hp), Q' v h' → V h' (cn + mc') (n + ms') (pc + 3) L (v.toList ++ rest)) : V h cn n pc L stk := by
  obtain ⟨p, e, s, m, args, below, meth, c, rfl, hx, hb, hml, hown, hts, hlk, hrt, hT, hZ, hz, hex, hini, hst⟩ := C
  intro H locs ls K hl'
  subst hstk
  obtain ⟨g1, g2, g3⟩ := (ySg.use hy)
  refine r_go hz hl' K.2 (va_runV (As := As) (C := q.1) ⟨hx, hb, hml, hown, hts⟩ hM (cwV As.length hts (lw_V w1 w2 w3 w4 w5) rfl rfl rfl ⟨hyc, g1, g2, g3⟩ (rmOK.use hrm)) ⟨Wd.blind, K.1.recv hT hq hcl, fun U hU hW => ⟨rfl, Wd.of hT hZ hz K hW hU⟩⟩ rfl rfl hl'.1 rfl (lv_room hcat) d ⟨hc, hn⟩) kk
theorem r_callS (C : Cx G l V cc nL own fr lo mc ms Q X rt hh ini) {ix maxL fr' lo' mc' ms' : Nat} {y : MethodName} {cy : ByteArray} {ry : Option FieldType} {As : List Value} {stk : List Value} {Q' : Option Value → Hp → Prop} (hy : ySg y As.length = true) (w1 : Cond.methodLink own ix y ∈ lw_all) (w2 : Cond.static y ∈ lw_all) (w3 : Cond.initialized y.cls ∈ lw_all) (w5 : Cond.code y cy maxL ry ∈ lw_all) (hrm : rmOK fr lo fr' lo' maxL = true) (hcat : (rest.map fun v => v.category).sum ≤ 8) (d : decode cc pc = .ok (.invokestatic ix, 3)) (hstk : stk = As.reverse ++ rest)
    (hc : cn + mc' ≤ mc) (hn : n + ms' ≤ ms) (hM : Ct G l y (ws_ y cy maxL ry) fr' lo' mc' ms' As h Q') (kk : ∀ (v : Option Value) (h' : Hp), Q' v h' → V h' (cn + mc') (n + ms') (pc + 3) L (v.toList ++ rest)) : V h cn n pc L stk := by
  obtain ⟨p, e, s, m, args, below, meth, c, rfl, hx, hb, hml, hown, hts, hlk, hrt, hT, hZ, hz, hex, hini, hst⟩ := C
  intro H locs ls K hl'
  subst hstk
  exact r_go hz hl' K.2 (va_runS (As := As) ⟨hx, hb, hml, hown, hts⟩ hM (va_cwS As.length hts (lw_S w1 w2 w3 w5) rfl rfl rfl (ySg.use hy) (rmOK.use hrm)) ⟨Wd.blind, fun U hU hW => ⟨rfl, Wd.of hT hZ hz K hW hU⟩⟩ rfl rfl hl'.1 rfl (lv_room hcat) d ⟨hc, hn⟩) kk
/-- a constructor -/
theorem r_callI (C : Cx G l V cc nL own fr lo mc ms Q X rt hh ini) {ix a maxL fr' lo' mc' ms' : Nat} {y : MethodName} {cy : ByteArray} {As : List Value} {stk : List Value} {Q' : Option Value → Hp → Prop} (hy : ySg y As.length = true) (hyn : y.name = "<init>") (w1 : Cond.methodLink own ix y ∈ lw_all) (w2 : Cond.instanceMethod y ∈ lw_all) (w3 : Cond.initialized y.cls ∈ lw_all) (w5 : Cond.code y cy maxL none ∈ lw_all) (hrm : rmOK fr lo fr' lo' maxL = true) (hcat : (rest.map fun v => v.category).sum ≤ 8) (d : decode cc pc = .ok (.invokespecial ix, 3)) (hstk : stk = As.reverse ++ .ref a :: rest)
    (hc : cn + mc' ≤ mc) (hn : n + ms' ≤ ms) (hM : Ct G l y (ws_ y cy maxL none) fr' lo' mc' ms' (.ref a :: As) h Q') (kk : ∀ (v : Option Value) (h' : Hp), Q' v h' → V h' (cn + mc') (n + ms') (pc + 3) L (v.toList ++ rest)) : V h cn n pc L stk := by
  obtain ⟨p, e, s, m, args, below, meth, c, rfl, hx, hb, hml, hown, hts, hlk, hrt, hT, hZ, hz, hex, hini, hst⟩ := C
  intro H locs ls K hl'
  subst hstk
  exact r_go hz hl' K.2 (va_runI (As := As) ⟨hx, hb, hml, hown, hts⟩ hM (cwI As.length hts (lw_meth w5) rfl rfl rfl (hts _ w3) (hts _ w1) (hts _ w2) hyn (ySg.use hy) (rmOK.use hrm)) ⟨Wd.blind, fun U hU hW => ⟨rfl, Wd.of hT hZ hz K hW hU⟩⟩ rfl rfl hl'.1 rfl (lv_room hcat) d ⟨hc, hn⟩) kk
/-- a private static of a nest mate -/
theorem r_callSN (C : Cx G l V cc nL own fr lo mc ms Q X rt hh ini) {ix maxL fr' lo' mc' ms' : Nat} {host : String} {y : MethodName} {cy : ByteArray} {ry : Option FieldType} {As : List Value} {stk : List Value} {Q' : Option Value → Hp → Prop} (hy : ySg y As.length = true) (w1 : Cond.methodLinkNest own ix y host ∈ nwL) (w2 : Cond.static y ∈ lw_all) (w3 : Cond.initialized y.cls ∈ lw_all) (w5 : Cond.code y cy maxL ry ∈ lw_all) (hrm : rmOK fr lo fr' lo' maxL = true) (hcat : (rest.map fun v => v.category).sum ≤ 8) (d : decode cc pc = .ok (.invokestatic ix, 3)) (hstk : stk = As.reverse ++ rest)
    (hc : cn + mc' ≤ mc) (hn : n + ms' ≤ ms) (hM : Ct G l y (ws_ y cy maxL ry) fr' lo' mc' ms' As h Q') (kk : ∀ (v : Option Value) (h' : Hp), Q' v h' → V h' (cn + mc') (n + ms') (pc + 3) L (v.toList ++ rest)) : V h cn n pc L stk := by
  obtain ⟨p, e, s, m, args, below, meth, c, rfl, hx, hb, hml, hown, hts, hlk, hrt, hT, hZ, hz, hex, hini, hst⟩ := C
  intro H locs ls K hl'
  subst hstk
  exact r_go hz hl' K.2 (va_runSN (As := As) ⟨hx, hb, hml, hown, hts⟩ hM ⟨va_cnB As.length hts (lw_meth w5) rfl rfl rfl (hT.2.1 _ w1) (hts _ w3) (ySg.use hy) (rmOK.use hrm), hts _ w2, trivial⟩ ⟨Wd.blind, fun U hU hW => ⟨rfl, Wd.of hT hZ hz K hW hU⟩⟩ rfl rfl hl'.1 rfl (lv_room hcat) d ⟨hc, hn⟩) kk
/-- a private method of a nest mate -/
theorem r_callVN (C : Cx G l V cc nL own fr lo mc ms Q X rt hh ini) {ix ci a maxL fr' lo' mc' ms' : Nat} {host : String} {y : MethodName} {cy : ByteArray} {ry : Option FieldType} {q : vw_C} {As : List Value} {stk : List Value} {Q' : Option Value → Hp → Prop} (hy : ySg y As.length = true) (hq : clAll[ci]? = some q) (w1 : Cond.methodLinkNest own ix y host ∈ nwL) (w2 : Cond.instanceMethod y ∈ lw_all) (w3 : Cond.selects q.1 y y ∈ lw_all) (w4 : Cond.initialized y.cls ∈ lw_all) (w5 : Cond.code y cy maxL ry ∈ lw_all) (hrm : rmOK fr lo fr' lo' maxL = true) (hcat : (rest.map fun v => v.category).sum ≤ 8) (d : decode cc pc = .ok (.invokevirtual ix, 3)) (hstk : stk = As.reverse ++ .ref a :: rest)
    (hcl : hasC h a ci) (hc : cn + mc' ≤ mc) (hn : n + ms' ≤ ms) (hM : Ct G l y (ws_ y cy maxL ry) fr' lo' mc' ms' (.ref a :: As) h Q') (kk : ∀ (v : Option Value) (h' : Hp), Q' v h' → V h' (cn + mc') (n + ms') (pc + 3) L (v.toList ++ rest)) : V h cn n pc L stk := by
  obtain ⟨p, e, s, m, args, below, meth, c, rfl, hx, hb, hml, hown, hts, hlk, hrt, hT, hZ, hz, hex, hini, hst⟩ := C
  intro H locs ls K hl'
  subst hstk
  exact r_go hz hl' K.2 (va_runVN (As := As) (C := q.1) ⟨hx, hb, hml, hown, hts⟩ hM ⟨va_cnB As.length hts (lw_meth w5) rfl rfl rfl (hT.2.1 _ w1) (hts _ w4) (ySg.use hy) (rmOK.use hrm), hts _ w2, hts _ w3⟩ ⟨Wd.blind, K.1.recv hT hq hcl, fun U hU hW => ⟨rfl, Wd.of hT hZ hz K hW hU⟩⟩ rfl rfl hl'.1 rfl (lv_room hcat) d ⟨hc, hn⟩) kk
/-- through an interface -/
theorem lw_F {own : String} {ix : Nat} {C : String} {x y : MethodName} {b : ByteArray} {L : Nat} {r : Option FieldType} (h1 : Cond.methodLink own ix x ∈ lw_all) (h2 : Cond.selects C x y ∈ lw_all) (h3 : Cond.instanceMethod y ∈ lw_all) (h4 : Cond.initialized y.cls ∈ lw_all) (h5 : Cond.code y b L r ∈ lw_all) : GoodIn lw_all (va_wsF own ix C x y (ws_ y b L r)) := by
  refine lw_app ?_ (lw_meth h5)
  intro w hw
  simp only [List.mem_cons, List.not_mem_nil, or_false] at hw
  rcases hw with e | e | e | e
  · rw [e]; exact h1
  · rw [e]; exact h2
  · rw [e]; exact h3
  · rw [e]; exact h4
theorem r_callF (C : Cx G l V cc nL own fr lo mc ms Q X rt hh ini) {ix ci a maxL fr' lo' mc' ms' ct : Nat} {x y : MethodName} {cy : ByteArray} {ry : Option FieldType} {q : vw_C} {As : List Value} {stk : List Value} {Q' : Option Value → Hp → Prop} (hy : ySg x As.length = true) (hq : clAll[ci]? = some q) (w1 : Cond.methodLink own ix x ∈ lw_all) (w2 : Cond.selects q.1 x y ∈ lw_all) (w3 : Cond.instanceMethod y ∈ lw_all) (w4 : Cond.initialized y.cls ∈ lw_all) (w5 : Cond.code y cy maxL ry ∈ lw_all) (w6 : (q.1, x, y) ∈ fwL) (hrm : rmOK fr lo fr' lo' maxL = true) (hcat : (rest.map fun v => v.category).sum ≤ 8) (d : decode cc pc = .ok (.invokeinterface ix ct, 5)) (hstk : stk = As.reverse ++ .ref a :: rest)
    (hcl : hasC h a ci) (hc : cn + mc' ≤ mc) (hn : n + ms' ≤ ms) (hM : Ct G l y (ws_ y cy maxL ry) fr' lo' mc' ms' (.ref a :: As) h Q') (kk : ∀ (v : Option Value) (h' : Hp), Q' v h' → V h' (cn + mc') (n + ms') (pc + 5) L (v.toList ++ rest)) : V h cn n pc L stk := by
  obtain ⟨p, e, s, m, args, below, meth, c, rfl, hx, hb, hml, hown, hts, hlk, hrt, hT, hZ, hz, hex, hini, hst⟩ := C
  intro H locs ls K hl'
  subst hstk
  refine r_go5 hz hl' K.2 (va_runF (As := As) (C := q.1) (hT.kn hq).2 ⟨hx, hb, hml, hown, hts⟩ hM (va_cwF As.length hts (lw_F w1 w2 w3 w4 w5) rfl rfl rfl (hT.2.2.1 _ w6) (ySg.use hy) (rmOK.use hrm)) ⟨Wd.blind, K.1.recv hT hq hcl, fun U hU hW => ⟨rfl, Wd.of hT hZ hz K hW hU⟩⟩ rfl rfl hl'.1 rfl (lv_room hcat) d ⟨hc, hn⟩) kk
/-- an inherited or overriding method: the link names x, declared by 'owner'; y runs -/
theorem lw_U {own : String} {ix : Nat} {C owner : String} {x y : MethodName} {b : ByteArray} {L : Nat} {r : Option FieldType} (h1 : Cond.methodLink own ix x ∈ lw_all) (h2 : Cond.sameMethod x.cls owner x.name x.desc ∈ lw_all) (h3 : Cond.selects C x y ∈ lw_all) (h4 : Cond.instanceMethod y ∈ lw_all) (h6 : Cond.initialized y.cls ∈ lw_all) (h5 : Cond.code y b L r ∈ lw_all) : GoodIn lw_all (va_wsU own ix C owner x y (ws_ y b L r)) := by
  refine lw_app ?_ (lw_meth h5)
  intro w hw
  simp only [List.mem_cons, List.not_mem_nil, or_false] at hw
  rcases hw with e | e | e | e | e
  · rw [e]; exact h1
  · rw [e]; exact h2
  · rw [e]; exact h3
  · rw [e]; exact h4
  · rw [e]; exact h6
theorem r_callU (C : Cx G l V cc nL own fr lo mc ms Q X rt hh ini) {ix ci a maxL fr' lo' mc' ms' : Nat} {owner : String} {x y : MethodName} {cy : ByteArray} {ry : Option FieldType} {q : vw_C} {As : List Value} {stk : List Value} {Q' : Option Value → Hp → Prop} (hy : ySg ⟨owner, x.name, x.desc⟩ As.length = true) (hq : clAll[ci]? = some q) (w1 : Cond.methodLink own ix x ∈ lw_all) (w2 : Cond.sameMethod x.cls owner x.name x.desc ∈ lw_all) (w3 : Cond.selects q.1 x y ∈ lw_all) (w4 : Cond.instanceMethod y ∈ lw_all) (w6 : Cond.initialized y.cls ∈ lw_all) (w5 : Cond.code y cy maxL ry ∈ lw_all) (w7 : (⟨owner, x.name, x.desc⟩ : MethodName) ∈ dcL) (hrm : rmOK fr lo fr' lo' maxL = true) (hcat : (rest.map fun v => v.category).sum ≤ 8) (d : decode cc pc = .ok (.invokevirtual ix, 3)) (hstk : stk = As.reverse ++ .ref a :: rest)
    (hcl : hasC h a ci) (hc : cn + mc' ≤ mc) (hn : n + ms' ≤ ms) (hM : Ct G l y (ws_ y cy maxL ry) fr' lo' mc' ms' (.ref a :: As) h Q') (kk : ∀ (v : Option Value) (h' : Hp), Q' v h' → V h' (cn + mc') (n + ms') (pc + 3) L (v.toList ++ rest)) : V h cn n pc L stk := by
  obtain ⟨p, e, s, m, args, below, meth, c, rfl, hx, hb, hml, hown, hts, hlk, hrt, hT, hZ, hz, hex, hini, hst⟩ := C
  intro H locs ls K hl'
  subst hstk
  exact r_go hz hl' K.2 (va_runU (As := As) (C := q.1) (owner := owner) ⟨hx, hb, hml, hown, hts⟩ hM (va_cwA As.length hts (lw_U w1 w2 w3 w4 w6 w5) rfl rfl rfl (hT.2.2.2.2.2.1 _ w7) (ySg.use hy) (rmOK.use hrm)) ⟨Wd.blind, K.1.recv hT hq hcl, fun U hU hW => ⟨rfl, Wd.of hT hZ hz K hW hU⟩⟩ rfl rfl hl'.1 rfl (lv_room hcat) d ⟨hc, hn⟩) kk
theorem r_objInit (C : Cx G l V cc nL own fr lo mc ms Q X rt hh ini) {ix a : Nat} (w1 : Cond.methodLink own ix objectInit ∈ lw_all) (w2 : Cond.instanceMethod objectInit ∈ lw_all) (w3 : Cond.code objectInit ⟨#[0xb1]⟩ 1 none ∈ lw_all) (hfr : 1 ≤ fr) (hlo : 12 ≤ lo) (d : decode cc pc = .ok (.invokespecial ix, 3)) (kk : V h cn n (pc + 3) L []) : V h cn n pc L [.ref a] := by
  obtain ⟨p, e, s, m, args, below, meth, c, rfl, hx, hb, hml, hown, hts, hlk, hrt, hT, hZ, hz, hex, hini, hst⟩ := C
  intro H locs ls K hl'
  refine W.objInit hx hb hown (hts _ w1) (hts _ w2) (hts _ w3) rfl (by rw [hml]; exact hl'.1) rfl d hfr hlo ?_
  exact W.eq rfl (kk H locs ls K hl')
end
