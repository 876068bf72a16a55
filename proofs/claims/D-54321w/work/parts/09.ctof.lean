set_option maxRecDepth 100000
/-! CONTRACTS OUT OF WALKS -/
section
variable {G : gT} {l : Launch}
def szOK (av : List Value) (maxL : Nat) : Prop := (lg_sl av).length ≤ maxL
theorem Ct.of {y : MethodName} {cc : ByteArray} {maxL : Nat} {ret : Option FieldType} {own : String} {fr lo mc ms : Nat} {av : List Value} {h : Hp} {Q : Option Value → Hp → Prop} (ini : Bool) (hy : plainName y.cls = true) (hown : y.cls = own) (hsz : szOK av maxL) (hini : ini = true → y.name = "<init>")
    (body : ∀ V, Cx G l V cc maxL own fr lo mc ms Q none ret [] ini → V h 0 0 0 (lv_args 0 av) []) : Ct G l y (ws_ y cc maxL ret) fr lo mc ms av h Q := by
  refine Met.ofW (cc := cc) (maxL := maxL) (ret := ret) hy rfl ?_
  intro p e s m args below meth c s₁ B hml hv
  obtain ⟨rfl, hT, hZ, hH, hz⟩ := hv
  have hts := atoms_spec (ws := ws_ y cc maxL ret) B.pre
  have hts : ∀ w ∈ lw_all, w.before _ s = true := fun w h => hts w (List.mem_cons_of_mem _ h)
  have hl := lv_entry av (n := maxL) hsz
  rw [lg_entry_eq]
  exact body _ ⟨p, e, s, m, _, below, meth, c, rfl, B.exec, B.bytes, hml, by rw [← hown]; exact findClass_of_methodNamed B.named, hts, B.notSynchronized, B.returns, hT, hZ, hz, fun q => (by rcases q with q | q; exact absurd q (by decide); exact absurd rfl q), fun q => (by rw [← hini q]; exact (name_of_methodNamed B.named B.method).1), fun q => (by cases q)⟩ s.heap [] _ ⟨hH, va_S.rf⟩ hl
theorem CtX.of {y : MethodName} {cc : ByteArray} {maxL : Nat} {ret : Option FieldType} {own : String} {fr lo mc ms : Nat} {av : List Value} {h : Hp} {Q : Option Value → Hp → Prop} {X : String → Hp → Prop} (hst : l.stackTraces = false) (hy : plainName y.cls = true) (hown : y.cls = own) (hsz : szOK av maxL)
    (body : ∀ V, Cx G l V cc maxL own fr lo mc ms Q (some X) ret [] false → V h 0 0 0 (lv_args 0 av) []) : CtX G l y (ws_ y cc maxL ret) fr lo mc ms av h Q X := by
  refine vx_ofW (cc := cc) (maxL := maxL) (ret := ret) hy rfl ?_
  intro p e s m args below meth c s₁ B hml htab hv
  obtain ⟨rfl, hT, hZ, hH, hz⟩ := hv
  have hts := atoms_spec (ws := ws_ y cc maxL ret) B.pre
  have hts : ∀ w ∈ lw_all, w.before _ s = true := fun w h => hts w (List.mem_cons_of_mem _ h)
  have hl := lv_entry av (n := maxL) hsz
  rw [lg_entry_eq]
  refine body _ ⟨p, e, s, m, _, below, meth, c, rfl, B.exec, B.bytes, hml, by rw [← hown]; exact findClass_of_methodNamed B.named, hts, B.notSynchronized, B.returns, hT, hZ, hz, fun _ => ?_, fun q => (by cases q), fun _ => hst⟩ s.heap [] _ ⟨hH, va_S.rf⟩ hl
  cases hc : c.exceptionTable.toList with
  | nil => rfl
  | cons x r => exact (htab x (by rw [hc]; exact List.mem_cons_self)).elim
theorem CtW.of {y : MethodName} {cc : ByteArray} {maxL : Nat} {ret : Option FieldType} {own : String} {hh : List (Nat × Nat × Nat × Nat)} {fr lo mc ms : Nat} {av : List Value} {h : Hp} {Q : Option Value → Hp → Prop} (hy : plainName y.cls = true) (hown : y.cls = own) (hsz : szOK av maxL)
    (body : ∀ V, Cx G l V cc maxL own fr lo mc ms Q none ret hh false → V h 0 0 0 (lv_args 0 av) []) : Ct G l y (wsW_ y cc maxL ret hh) fr lo mc ms av h Q := by
  refine va_MetW (cc := cc) (maxL := maxL) (ret := ret) (hh := hh) hy rfl ?_
  intro p e s m args below meth c s₁ B hml hv
  obtain ⟨rfl, hT, hZ, hH, hz⟩ := hv
  have hts0 := atoms_spec (ws := wsW_ y cc maxL ret hh) B.pre
  have hts : ∀ w ∈ lw_all, w.before _ s = true := fun w h => hts0 w (List.mem_cons_of_mem _ h)
  have hl := lv_entry av (n := maxL) hsz
  rw [lg_entry_eq]
  exact body _ ⟨p, e, s, m, _, below, meth, c, rfl, B.exec, B.bytes, hml, by rw [← hown]; exact findClass_of_methodNamed B.named, hts, B.notSynchronized, B.returns, hT, hZ, hz, fun _ => vx_table (x := y) B (hts0 _ List.mem_cons_self), fun q => (by cases q), fun q => (by cases q)⟩ s.heap [] _ ⟨hH, va_S.rf⟩ hl
end
section
variable {G : gT} {l : Launch} {V : Hp → Nat → Nat → Nat → List (Nat × Value) → List Value → Prop} {cc : ByteArray} {nL : Nat} {own : String} {fr lo mc ms : Nat} {Q : Option Value → Hp → Prop} {X : Option (String → Hp → Prop)} {rt : Option FieldType} {hh : List (Nat × Nat × Nat × Nat)} {ini : Bool}
variable {h : Hp} {cn n pc : Nat} {L : List (Nat × Value)} {rest : List Value}
theorem r_sub (C : Cx G l V cc nL own fr lo mc ms Q X rt hh ini) (ks : List Nat) {L' : List (Nat × Value)} (hL : lv_pick L ks = L') (k : V h cn n pc L' rest) : V h cn n pc L rest := by
  obtain ⟨p, e, s, m, args, below, meth, c, rfl, hx, hb, hml, hown, hts, hlk, hrt, hT, hZ, hz, hex, hini, hst⟩ := C
  intro H locs ls K hl'
  exact k H locs ls K (lv_sub hl' ks hL)
/-- a call of a static method with handlers -/
theorem r_callSW (C : Cx G l V cc nL own fr lo mc ms Q X rt hh ini) {ix maxL fr' lo' mc' ms' : Nat} {y : MethodName} {cy : ByteArray} {ry : Option FieldType} {hy9 : List (Nat × Nat × Nat × Nat)} {As : List Value} {stk : List Value} {Q' : Option Value → Hp → Prop} (hy : ySg y As.length = true) (w1 : Cond.methodLink own ix y ∈ lw_all) (w2 : Cond.static y ∈ lw_all) (w3 : Cond.initialized y.cls ∈ lw_all) (w5 : Cond.codeWith y cy maxL ry hy9 ∈ lw_all) (hrm : rmOK fr lo fr' lo' maxL = true) (hcat : (rest.map fun v => v.category).sum ≤ 8) (d : decode cc pc = .ok (.invokestatic ix, 3)) (hstk : stk = As.reverse ++ rest)
    (hc : cn + mc' ≤ mc) (hn : n + ms' ≤ ms) (hM : Ct G l y (wsW_ y cy maxL ry hy9) fr' lo' mc' ms' As h Q') (kk : ∀ (v : Option Value) (h' : Hp), Q' v h' → V h' (cn + mc') (n + ms') (pc + 3) L (v.toList ++ rest)) : V h cn n pc L stk := by
  obtain ⟨p, e, s, m, args, below, meth, c, rfl, hx, hb, hml, hown, hts, hlk, hrt, hT, hZ, hz, hex, hini, hst⟩ := C
  intro H locs ls K hl'
  subst hstk
  exact r_go hz hl' K.2 (vx_runSW (As := As) ⟨hx, hb, hml, hown, hts⟩ hM (vx_cwSW As.length hts (lw_SW w1 w2 w3 w5) rfl rfl rfl (ySg.use hy) (rmOK.use hrm)) ⟨Wd.blind, fun U hU hW => ⟨rfl, Wd.of hT hZ hz K hW hU⟩⟩ rfl rfl hl'.1 rfl (lv_room hcat) d ⟨hc, hn⟩) kk
theorem r_tableAt (C : Cx G l V cc nL own fr lo mc ms Q X rt hh ini) {dflt low high : Int} {offs : Array Int} {len : Nat} {x k : Int32} {off : Int} {tgt : Nat} (hx : x = k) (h1 : ¬ k.toInt < low) (h2 : ¬ high < k.toInt) (ho : offs[(k.toInt - low).toNat]? = some off) (ht : (pc : Int) + off = (tgt : Int)) (d : decode cc pc = .ok (.tableswitch dflt low high offs, len)) (kk : V h cn n tgt L rest) : V h cn n pc L (.int x :: rest) := by
  subst hx
  exact r_tableIn C h1 h2 ho ht d kk
theorem tb_k {x : Int32} {low high : Int} (N : Nat) (hN : high - low < N) (hq : ¬ (x.toInt < low ∨ high < x.toInt)) : ∃ k : Nat, k < N ∧ x = Int32.ofInt (low + k) := by
  refine ⟨(x.toInt - low).toNat, by omega, ?_⟩
  have : low + ((x.toInt - low).toNat : Int) = x.toInt := by omega
  rw [this]
  exact (Int32.ofInt_toInt x).symm
end
theorem n_bI (x : Bool) : narrow .boolean (.int (bI x)) = .int (bI x) := by cases x <;> rfl
theorem f_bI (x : Bool) : fits .boolean (.int (bI x)) = true := by cases x <;> rfl
theorem n_rfO (C : String) (x : Option Nat) : narrow (.object C) (va_rf x) = va_rf x := by cases x <;> rfl
theorem f_rfO (C : String) (x : Option Nat) : fits (.object C) (va_rf x) = true := by cases x <;> rfl
theorem n_rfA (t : FieldType) (x : Option Nat) : narrow (.array t) (va_rf x) = va_rf x := by cases x <;> rfl
theorem f_rfA (t : FieldType) (x : Option Nat) : fits (.array t) (va_rf x) = true := by cases x <;> rfl
def pI (Q : Int32 → Hp → Prop) : Option Value → Hp → Prop := fun v h => ∃ r : Int32, v = some (.int r) ∧ Q r h
def pZ (Q : Bool → Hp → Prop) : Option Value → Hp → Prop := fun v h => ∃ r : Bool, v = some (.int (bI r)) ∧ Q r h
def pJ (Q : Int64 → Hp → Prop) : Option Value → Hp → Prop := fun v h => ∃ r : Int64, v = some (.long r) ∧ Q r h
def pV (Q : Hp → Prop) : Option Value → Hp → Prop := fun v h => v = none ∧ Q h
def pR (Q : Option Nat → Hp → Prop) : Option Value → Hp → Prop := fun v h => ∃ r : Option Nat, v = some (va_rf r) ∧ Q r h
/-- the length of a row that may be ArrayList's empty one -/
def alenE (G : gT) (h : Hp) (a : Nat) (K : Int32 → Prop) : Prop := (a = gE0 G ∧ K 0) ∨ alen h a K
