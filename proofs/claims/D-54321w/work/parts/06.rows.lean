set_option maxRecDepth 100000
section
variable {G : gT} {l : Launch} {V : Hp → Nat → Nat → Nat → List (Nat × Value) → List Value → Prop} {cc : ByteArray} {nL : Nat} {own : String} {fr lo mc ms : Nat} {Q : Option Value → Hp → Prop} {X : Option (String → Hp → Prop)} {rt : Option FieldType} {hh : List (Nat × Nat × Nat × Nat)} {ini : Bool}
variable {h : Hp} {cn n pc : Nat} {L : List (Nat × Value)} {rest : List Value}
theorem r_iconst (C : Cx G l V cc nL own fr lo mc ms Q X rt hh ini) {z : Int} {v : Int32} (hv : Int32.ofInt z = v) (d : decode cc pc = .ok (.iconst z, 1))
    (k : V h cn n (pc + 1) L (.int v :: rest)) : V h cn n pc L (rest) := by
  obtain ⟨p, e, s, m, args, below, meth, c, rfl, hx, hb, hml, hown, hts, hlk, hrt, hT, hZ, hz, hex, hini, hst⟩ := C
  intro H locs ls K hl
  exact lv_iconst hx hb d hv (k H locs ls K hl)
theorem r_bipush (C : Cx G l V cc nL own fr lo mc ms Q X rt hh ini) {z : Int} {v : Int32} (hv : (Int8.ofInt z).toInt32 = v) (d : decode cc pc = .ok (.bipush z, 2))
    (k : V h cn n (pc + 2) L (.int v :: rest)) : V h cn n pc L (rest) := by
  obtain ⟨p, e, s, m, args, below, meth, c, rfl, hx, hb, hml, hown, hts, hlk, hrt, hT, hZ, hz, hex, hini, hst⟩ := C
  intro H locs ls K hl
  exact lv_bipush hx hb d hv (k H locs ls K hl)
theorem r_sipush (C : Cx G l V cc nL own fr lo mc ms Q X rt hh ini) {z : Int} {v : Int32} (hv : (Int16.ofInt z).toInt32 = v) (d : decode cc pc = .ok (.sipush z, 3))
    (k : V h cn n (pc + 3) L (.int v :: rest)) : V h cn n pc L (rest) := by
  obtain ⟨p, e, s, m, args, below, meth, c, rfl, hx, hb, hml, hown, hts, hlk, hrt, hT, hZ, hz, hex, hini, hst⟩ := C
  intro H locs ls K hl
  exact lv_sipush hx hb d hv (k H locs ls K hl)
theorem r_lconst (C : Cx G l V cc nL own fr lo mc ms Q X rt hh ini) {z : Fin 2} {v : Int64} (hv : Int64.ofNat (z : Nat) = v) (d : decode cc pc = .ok (.lconst z, 1))
    (k : V h cn n (pc + 1) L (.long v :: rest)) : V h cn n pc L (rest) := by
  obtain ⟨p, e, s, m, args, below, meth, c, rfl, hx, hb, hml, hown, hts, hlk, hrt, hT, hZ, hz, hex, hini, hst⟩ := C
  intro H locs ls K hl
  exact lv_lconst hx hb d hv (k H locs ls K hl)
theorem r_ldc (C : Cx G l V cc nL own fr lo mc ms Q X rt hh ini) {ix : Nat} {v : Int32} (hq : Cond.constant own ix v ∈ lw_all) (d : decode cc pc = .ok (.ldc ix, 2))
    (k : V h cn n (pc + 2) L (.int v :: rest)) : V h cn n pc L (rest) := by
  obtain ⟨p, e, s, m, args, below, meth, c, rfl, hx, hb, hml, hown, hts, hlk, hrt, hT, hZ, hz, hex, hini, hst⟩ := C
  intro H locs ls K hl
  exact lv_ldc hx hb hown (hts _ hq) d (k H locs ls K hl)
theorem r_ldc_w (C : Cx G l V cc nL own fr lo mc ms Q X rt hh ini) {ix : Nat} {v : Int32} (hq : Cond.constant own ix v ∈ lw_all) (d : decode cc pc = .ok (.ldc_w ix, 3))
    (k : V h cn n (pc + 3) L (.int v :: rest)) : V h cn n pc L (rest) := by
  obtain ⟨p, e, s, m, args, below, meth, c, rfl, hx, hb, hml, hown, hts, hlk, hrt, hT, hZ, hz, hex, hini, hst⟩ := C
  intro H locs ls K hl
  exact lv_ldcw hx hb hown (hts _ hq) d (k H locs ls K hl)
theorem r_ldc2 (C : Cx G l V cc nL own fr lo mc ms Q X rt hh ini) {ix : Nat} {v : Int64} (hq : Cond.constantLong own ix v ∈ lw_all) (d : decode cc pc = .ok (.ldc2_w ix, 3))
    (k : V h cn n (pc + 3) L (.long v :: rest)) : V h cn n pc L (rest) := by
  obtain ⟨p, e, s, m, args, below, meth, c, rfl, hx, hb, hml, hown, hts, hlk, hrt, hT, hZ, hz, hex, hini, hst⟩ := C
  intro H locs ls K hl
  exact lv_ldc2 hx hb hown (hts _ hq) d (k H locs ls K hl)
theorem r_iload_n (C : Cx G l V cc nL own fr lo mc ms Q X rt hh ini) {j : Fin 4} {i : Nat} {x : Int32} (hi : (j : Nat) = i) (u : Nat) (hu : L[u]? = some (i, .int x)) (d : decode cc pc = .ok (.iload_n j, 1))
    (k : V h cn n (pc + 1) L (.int x :: rest)) : V h cn n pc L (rest) := by
  obtain ⟨p, e, s, m, args, below, meth, c, rfl, hx, hb, hml, hown, hts, hlk, hrt, hT, hZ, hz, hex, hini, hst⟩ := C
  intro H locs ls K hl
  exact lv_iload_n hx hb d hi (lv_at hl u hu) (k H locs ls K hl)
theorem r_iload (C : Cx G l V cc nL own fr lo mc ms Q X rt hh ini) {i : Nat} {x : Int32} (u : Nat) (hu : L[u]? = some (i, .int x)) (d : decode cc pc = .ok (.iload i, 2))
    (k : V h cn n (pc + 2) L (.int x :: rest)) : V h cn n pc L (rest) := by
  obtain ⟨p, e, s, m, args, below, meth, c, rfl, hx, hb, hml, hown, hts, hlk, hrt, hT, hZ, hz, hex, hini, hst⟩ := C
  intro H locs ls K hl
  exact lv_iload hx hb d (lv_at hl u hu) (k H locs ls K hl)
theorem r_lload_n (C : Cx G l V cc nL own fr lo mc ms Q X rt hh ini) {j : Fin 4} {i : Nat} {x : Int64} (hi : (j : Nat) = i) (u : Nat) (hu : L[u]? = some (i, .long x)) (d : decode cc pc = .ok (.lload_n j, 1))
    (k : V h cn n (pc + 1) L (.long x :: rest)) : V h cn n pc L (rest) := by
  obtain ⟨p, e, s, m, args, below, meth, c, rfl, hx, hb, hml, hown, hts, hlk, hrt, hT, hZ, hz, hex, hini, hst⟩ := C
  intro H locs ls K hl
  exact lv_lload_n hx hb d hi (lv_at hl u hu) (k H locs ls K hl)
theorem r_lload (C : Cx G l V cc nL own fr lo mc ms Q X rt hh ini) {i : Nat} {x : Int64} (u : Nat) (hu : L[u]? = some (i, .long x)) (d : decode cc pc = .ok (.lload i, 2))
    (k : V h cn n (pc + 2) L (.long x :: rest)) : V h cn n pc L (rest) := by
  obtain ⟨p, e, s, m, args, below, meth, c, rfl, hx, hb, hml, hown, hts, hlk, hrt, hT, hZ, hz, hex, hini, hst⟩ := C
  intro H locs ls K hl
  exact lv_lload hx hb d (lv_at hl u hu) (k H locs ls K hl)
theorem r_aload_n (C : Cx G l V cc nL own fr lo mc ms Q X rt hh ini) {j : Fin 4} {i : Nat} {x : Nat} (hi : (j : Nat) = i) (u : Nat) (hu : L[u]? = some (i, .ref x)) (d : decode cc pc = .ok (.aload_n j, 1))
    (k : V h cn n (pc + 1) L (.ref x :: rest)) : V h cn n pc L (rest) := by
  obtain ⟨p, e, s, m, args, below, meth, c, rfl, hx, hb, hml, hown, hts, hlk, hrt, hT, hZ, hz, hex, hini, hst⟩ := C
  intro H locs ls K hl
  exact lv_aload_n hx hb d hi (lv_at hl u hu) (k H locs ls K hl)
theorem r_aload (C : Cx G l V cc nL own fr lo mc ms Q X rt hh ini) {i : Nat} {x : Nat} (u : Nat) (hu : L[u]? = some (i, .ref x)) (d : decode cc pc = .ok (.aload i, 2))
    (k : V h cn n (pc + 2) L (.ref x :: rest)) : V h cn n pc L (rest) := by
  obtain ⟨p, e, s, m, args, below, meth, c, rfl, hx, hb, hml, hown, hts, hlk, hrt, hT, hZ, hz, hex, hini, hst⟩ := C
  intro H locs ls K hl
  exact lv_aload hx hb d (lv_at hl u hu) (k H locs ls K hl)
theorem r_aload_nO (C : Cx G l V cc nL own fr lo mc ms Q X rt hh ini) {j : Fin 4} {i : Nat} {x : Option Nat} (hi : (j : Nat) = i) (u : Nat) (hu : L[u]? = some (i, va_rf x)) (d : decode cc pc = .ok (.aload_n j, 1))
    (k : V h cn n (pc + 1) L (va_rf x :: rest)) : V h cn n pc L (rest) := by
  obtain ⟨p, e, s, m, args, below, meth, c, rfl, hx, hb, hml, hown, hts, hlk, hrt, hT, hZ, hz, hex, hini, hst⟩ := C
  intro H locs ls K hl
  cases x with
  | none => exact lv_aload_nN hx hb d hi (lv_at hl u hu) (k H locs ls K hl)
  | some a => exact lv_aload_n hx hb d hi (lv_at hl u hu) (k H locs ls K hl)
theorem r_istore_n (C : Cx G l V cc nL own fr lo mc ms Q X rt hh ini) {j : Fin 4} {i : Nat} {x : Int32} {L' : List (Nat × Value)} (hi : (j : Nat) = i) (hn : i < nL) (hL : (i, Value.int x) :: L.filter (fun q => !(q.1 == i) && !(q.1 + 1 == i && q.2.category == 2)) = L') (d : decode cc pc = .ok (.istore_n j, 1))
    (k : V h cn n (pc + 1) L' rest) : V h cn n pc L (.int x :: rest) := by
  obtain ⟨p, e, s, m, args, below, meth, c, rfl, hx, hb, hml, hown, hts, hlk, hrt, hT, hZ, hz, hex, hini, hst⟩ := C
  intro H locs ls K hl
  exact lv_istore_n hx hb d hi hl hn hL (fun ls' hl' => k H locs ls' K hl')
theorem r_astore_n (C : Cx G l V cc nL own fr lo mc ms Q X rt hh ini) {j : Fin 4} {i : Nat} {x : Nat} {L' : List (Nat × Value)} (hi : (j : Nat) = i) (hn : i < nL) (hL : (i, Value.ref x) :: L.filter (fun q => !(q.1 == i) && !(q.1 + 1 == i && q.2.category == 2)) = L') (d : decode cc pc = .ok (.astore_n j, 1))
    (k : V h cn n (pc + 1) L' rest) : V h cn n pc L (.ref x :: rest) := by
  obtain ⟨p, e, s, m, args, below, meth, c, rfl, hx, hb, hml, hown, hts, hlk, hrt, hT, hZ, hz, hex, hini, hst⟩ := C
  intro H locs ls K hl
  exact lv_astore_n hx hb d hi hl hn hL (fun ls' hl' => k H locs ls' K hl')
theorem r_lstore_n (C : Cx G l V cc nL own fr lo mc ms Q X rt hh ini) {j : Fin 4} {i : Nat} {x : Int64} {L' : List (Nat × Value)} (hi : (j : Nat) = i) (hn : i + 1 < nL) (hL : (i, Value.long x) :: L.filter (fun q => !(q.1 == i) && (!(q.1 == i + 1) && !(q.1 + 1 == i && q.2.category == 2))) = L') (d : decode cc pc = .ok (.lstore_n j, 1))
    (k : V h cn n (pc + 1) L' rest) : V h cn n pc L (.long x :: rest) := by
  obtain ⟨p, e, s, m, args, below, meth, c, rfl, hx, hb, hml, hown, hts, hlk, hrt, hT, hZ, hz, hex, hini, hst⟩ := C
  intro H locs ls K hl
  exact lv_lstore_n hx hb d hi hl hn hL (fun ls' hl' => k H locs ls' K hl')
theorem r_astore_nO (C : Cx G l V cc nL own fr lo mc ms Q X rt hh ini) {j : Fin 4} {i : Nat} {x : Option Nat} {L' : List (Nat × Value)} (hi : (j : Nat) = i) (hn : i < nL) (hL : (i, va_rf x) :: L.filter (fun q => !(q.1 == i) && !(q.1 + 1 == i && q.2.category == 2)) = L') (d : decode cc pc = .ok (.astore_n j, 1))
    (k : V h cn n (pc + 1) L' rest) : V h cn n pc L (va_rf x :: rest) := by
  obtain ⟨p, e, s, m, args, below, meth, c, rfl, hx, hb, hml, hown, hts, hlk, hrt, hT, hZ, hz, hex, hini, hst⟩ := C
  intro H locs ls K hl
  cases x with
  | none => exact lv_astore_nN hx hb d hi hl hn hL (fun ls' hl' => k H locs ls' K hl')
  | some a => exact lv_astore_n hx hb d hi hl hn hL (fun ls' hl' => k H locs ls' K hl')
theorem r_aloadO (C : Cx G l V cc nL own fr lo mc ms Q X rt hh ini) {i : Nat} {x : Option Nat} (u : Nat) (hu : L[u]? = some (i, va_rf x)) (d : decode cc pc = .ok (.aload i, 2))
    (k : V h cn n (pc + 2) L (va_rf x :: rest)) : V h cn n pc L (rest) := by
  obtain ⟨p, e, s, m, args, below, meth, c, rfl, hx, hb, hml, hown, hts, hlk, hrt, hT, hZ, hz, hex, hini, hst⟩ := C
  intro H locs ls K hl
  cases x with
  | none => exact lv_aloadN hx hb d (lv_at hl u hu) (k H locs ls K hl)
  | some a => exact lv_aload hx hb d (lv_at hl u hu) (k H locs ls K hl)
theorem r_istore (C : Cx G l V cc nL own fr lo mc ms Q X rt hh ini) {i : Nat} {x : Int32} {L' : List (Nat × Value)} (hn : i < nL) (hL : (i, Value.int x) :: L.filter (fun q => !(q.1 == i) && !(q.1 + 1 == i && q.2.category == 2)) = L') (d : decode cc pc = .ok (.istore i, 2))
    (k : V h cn n (pc + 2) L' rest) : V h cn n pc L (.int x :: rest) := by
  obtain ⟨p, e, s, m, args, below, meth, c, rfl, hx, hb, hml, hown, hts, hlk, hrt, hT, hZ, hz, hex, hini, hst⟩ := C
  intro H locs ls K hl
  exact lv_istore hx hb d hl hn hL (fun ls' hl' => k H locs ls' K hl')
theorem r_astore (C : Cx G l V cc nL own fr lo mc ms Q X rt hh ini) {i : Nat} {x : Nat} {L' : List (Nat × Value)} (hn : i < nL) (hL : (i, Value.ref x) :: L.filter (fun q => !(q.1 == i) && !(q.1 + 1 == i && q.2.category == 2)) = L') (d : decode cc pc = .ok (.astore i, 2))
    (k : V h cn n (pc + 2) L' rest) : V h cn n pc L (.ref x :: rest) := by
  obtain ⟨p, e, s, m, args, below, meth, c, rfl, hx, hb, hml, hown, hts, hlk, hrt, hT, hZ, hz, hex, hini, hst⟩ := C
  intro H locs ls K hl
  exact lv_astore hx hb d hl hn hL (fun ls' hl' => k H locs ls' K hl')
theorem r_lstore (C : Cx G l V cc nL own fr lo mc ms Q X rt hh ini) {i : Nat} {x : Int64} {L' : List (Nat × Value)} (hn : i + 1 < nL) (hL : (i, Value.long x) :: L.filter (fun q => !(q.1 == i) && (!(q.1 == i + 1) && !(q.1 + 1 == i && q.2.category == 2))) = L') (d : decode cc pc = .ok (.lstore i, 2))
    (k : V h cn n (pc + 2) L' rest) : V h cn n pc L (.long x :: rest) := by
  obtain ⟨p, e, s, m, args, below, meth, c, rfl, hx, hb, hml, hown, hts, hlk, hrt, hT, hZ, hz, hex, hini, hst⟩ := C
  intro H locs ls K hl
  exact lv_lstore hx hb d hl hn hL (fun ls' hl' => k H locs ls' K hl')
theorem r_astoreO (C : Cx G l V cc nL own fr lo mc ms Q X rt hh ini) {i : Nat} {x : Option Nat} {L' : List (Nat × Value)} (hn : i < nL) (hL : (i, va_rf x) :: L.filter (fun q => !(q.1 == i) && !(q.1 + 1 == i && q.2.category == 2)) = L') (d : decode cc pc = .ok (.astore i, 2))
    (k : V h cn n (pc + 2) L' rest) : V h cn n pc L (va_rf x :: rest) := by
  obtain ⟨p, e, s, m, args, below, meth, c, rfl, hx, hb, hml, hown, hts, hlk, hrt, hT, hZ, hz, hex, hini, hst⟩ := C
  intro H locs ls K hl
  cases x with
  | none => exact lv_astoreN hx hb d hl hn hL (fun ls' hl' => k H locs ls' K hl')
  | some a => exact lv_astore hx hb d hl hn hL (fun ls' hl' => k H locs ls' K hl')
theorem r_iinc (C : Cx G l V cc nL own fr lo mc ms Q X rt hh ini) {i u : Nat} {z : Int} {x v : Int32} {L' : List (Nat × Value)} (hu : L[u]? = some (i, .int x)) (hv : x + Int32.ofInt z = v) (hn : i < nL) (hL : (i, Value.int v) :: L.filter (fun q => !(q.1 == i) && !(q.1 + 1 == i && q.2.category == 2)) = L') (d : decode cc pc = .ok (.iinc i z, 3))
    (k : V h cn n (pc + 3) L' rest) : V h cn n pc L (rest) := by
  obtain ⟨p, e, s, m, args, below, meth, c, rfl, hx, hb, hml, hown, hts, hlk, hrt, hT, hZ, hz, hex, hini, hst⟩ := C
  intro H locs ls K hl
  exact lv_iinc hx hb d hl hu hv hn hL (fun ls' hl' => k H locs ls' K hl')
theorem r_iadd (C : Cx G l V cc nL own fr lo mc ms Q X rt hh ini) {x y : Int32} (d : decode cc pc = .ok (.iadd, 1))
    (k : V h cn n (pc + 1) L (.int (x + y) :: rest)) : V h cn n pc L (.int y :: .int x :: rest) := by
  obtain ⟨p, e, s, m, args, below, meth, c, rfl, hx, hb, hml, hown, hts, hlk, hrt, hT, hZ, hz, hex, hini, hst⟩ := C
  intro H locs ls K hl
  exact lv_iadd hx hb d (k H locs ls K hl)
theorem r_isub (C : Cx G l V cc nL own fr lo mc ms Q X rt hh ini) {x y : Int32} (d : decode cc pc = .ok (.isub, 1))
    (k : V h cn n (pc + 1) L (.int (x - y) :: rest)) : V h cn n pc L (.int y :: .int x :: rest) := by
  obtain ⟨p, e, s, m, args, below, meth, c, rfl, hx, hb, hml, hown, hts, hlk, hrt, hT, hZ, hz, hex, hini, hst⟩ := C
  intro H locs ls K hl
  exact lv_isub hx hb d (k H locs ls K hl)
theorem r_imul (C : Cx G l V cc nL own fr lo mc ms Q X rt hh ini) {x y : Int32} (d : decode cc pc = .ok (.imul, 1))
    (k : V h cn n (pc + 1) L (.int (x * y) :: rest)) : V h cn n pc L (.int y :: .int x :: rest) := by
  obtain ⟨p, e, s, m, args, below, meth, c, rfl, hx, hb, hml, hown, hts, hlk, hrt, hT, hZ, hz, hex, hini, hst⟩ := C
  intro H locs ls K hl
  exact lv_imul hx hb d (k H locs ls K hl)
theorem r_iand (C : Cx G l V cc nL own fr lo mc ms Q X rt hh ini) {x y : Int32} (d : decode cc pc = .ok (.iand, 1))
    (k : V h cn n (pc + 1) L (.int (x &&& y) :: rest)) : V h cn n pc L (.int y :: .int x :: rest) := by
  obtain ⟨p, e, s, m, args, below, meth, c, rfl, hx, hb, hml, hown, hts, hlk, hrt, hT, hZ, hz, hex, hini, hst⟩ := C
  intro H locs ls K hl
  exact lv_iand hx hb d (k H locs ls K hl)
theorem r_ior (C : Cx G l V cc nL own fr lo mc ms Q X rt hh ini) {x y : Int32} (d : decode cc pc = .ok (.ior, 1))
    (k : V h cn n (pc + 1) L (.int (x ||| y) :: rest)) : V h cn n pc L (.int y :: .int x :: rest) := by
  obtain ⟨p, e, s, m, args, below, meth, c, rfl, hx, hb, hml, hown, hts, hlk, hrt, hT, hZ, hz, hex, hini, hst⟩ := C
  intro H locs ls K hl
  exact lv_ior hx hb d (k H locs ls K hl)
theorem r_ixor (C : Cx G l V cc nL own fr lo mc ms Q X rt hh ini) {x y : Int32} (d : decode cc pc = .ok (.ixor, 1))
    (k : V h cn n (pc + 1) L (.int (x ^^^ y) :: rest)) : V h cn n pc L (.int y :: .int x :: rest) := by
  obtain ⟨p, e, s, m, args, below, meth, c, rfl, hx, hb, hml, hown, hts, hlk, hrt, hT, hZ, hz, hex, hini, hst⟩ := C
  intro H locs ls K hl
  exact lv_ixor hx hb d (k H locs ls K hl)
theorem r_ishl (C : Cx G l V cc nL own fr lo mc ms Q X rt hh ini) {x y : Int32} (d : decode cc pc = .ok (.ishl, 1))
    (k : V h cn n (pc + 1) L (.int (x <<< (y &&& 31)) :: rest)) : V h cn n pc L (.int y :: .int x :: rest) := by
  obtain ⟨p, e, s, m, args, below, meth, c, rfl, hx, hb, hml, hown, hts, hlk, hrt, hT, hZ, hz, hex, hini, hst⟩ := C
  intro H locs ls K hl
  exact lv_ishl hx hb d (k H locs ls K hl)
theorem r_ishr (C : Cx G l V cc nL own fr lo mc ms Q X rt hh ini) {x y : Int32} (d : decode cc pc = .ok (.ishr, 1))
    (k : V h cn n (pc + 1) L (.int (x >>> (y &&& 31)) :: rest)) : V h cn n pc L (.int y :: .int x :: rest) := by
  obtain ⟨p, e, s, m, args, below, meth, c, rfl, hx, hb, hml, hown, hts, hlk, hrt, hT, hZ, hz, hex, hini, hst⟩ := C
  intro H locs ls K hl
  exact lv_ishr hx hb d (k H locs ls K hl)
theorem r_iand_b (C : Cx G l V cc nL own fr lo mc ms Q X rt hh ini) {x y : Bool} (d : decode cc pc = .ok (.iand, 1))
    (k : V h cn n (pc + 1) L (.int (bI (x && y)) :: rest)) : V h cn n pc L (.int (bI y) :: .int (bI x) :: rest) := by
  obtain ⟨p, e, s, m, args, below, meth, c, rfl, hx, hb, hml, hown, hts, hlk, hrt, hT, hZ, hz, hex, hini, hst⟩ := C
  intro H locs ls K hl
  exact lv_iand hx hb d (by rw [show bI x &&& bI y = bI (x && y) from by cases x <;> cases y <;> decide]; exact k H locs ls K hl)
theorem r_idiv (C : Cx G l V cc nL own fr lo mc ms Q X rt hh ini) {x y : Int32} (hy : ¬ y = 0) (d : decode cc pc = .ok (.idiv, 1))
    (k : V h cn n (pc + 1) L (.int (x / y) :: rest)) : V h cn n pc L (.int y :: .int x :: rest) := by
  obtain ⟨p, e, s, m, args, below, meth, c, rfl, hx, hb, hml, hown, hts, hlk, hrt, hT, hZ, hz, hex, hini, hst⟩ := C
  intro H locs ls K hl
  exact lv_idiv hx hb d hy (k H locs ls K hl)
theorem r_irem (C : Cx G l V cc nL own fr lo mc ms Q X rt hh ini) {x y : Int32} (hy : ¬ y = 0) (d : decode cc pc = .ok (.irem, 1))
    (k : V h cn n (pc + 1) L (.int (x - x / y * y) :: rest)) : V h cn n pc L (.int y :: .int x :: rest) := by
  obtain ⟨p, e, s, m, args, below, meth, c, rfl, hx, hb, hml, hown, hts, hlk, hrt, hT, hZ, hz, hex, hini, hst⟩ := C
  intro H locs ls K hl
  exact lv_irem hx hb d hy (k H locs ls K hl)
theorem r_ineg (C : Cx G l V cc nL own fr lo mc ms Q X rt hh ini) {x : Int32} (d : decode cc pc = .ok (.ineg, 1))
    (k : V h cn n (pc + 1) L (.int (-x) :: rest)) : V h cn n pc L (.int x :: rest) := by
  obtain ⟨p, e, s, m, args, below, meth, c, rfl, hx, hb, hml, hown, hts, hlk, hrt, hT, hZ, hz, hex, hini, hst⟩ := C
  intro H locs ls K hl
  exact lv_ineg hx hb d (k H locs ls K hl)
theorem r_iushr (C : Cx G l V cc nL own fr lo mc ms Q X rt hh ini) {x y : Int32} (d : decode cc pc = .ok (.iushr, 1))
    (k : V h cn n (pc + 1) L (.int ((x.toUInt32 >>> (y.toUInt32 &&& Int32.toUInt32 31)).toInt32) :: rest)) : V h cn n pc L (.int y :: .int x :: rest) := by
  obtain ⟨p, e, s, m, args, below, meth, c, rfl, hx, hb, hml, hown, hts, hlk, hrt, hT, hZ, hz, hex, hini, hst⟩ := C
  intro H locs ls K hl
  exact lv_iushr hx hb d rfl (k H locs ls K hl)
theorem r_ladd (C : Cx G l V cc nL own fr lo mc ms Q X rt hh ini) {x y : Int64} (d : decode cc pc = .ok (.ladd, 1))
    (k : V h cn n (pc + 1) L (.long (x + y) :: rest)) : V h cn n pc L (.long y :: .long x :: rest) := by
  obtain ⟨p, e, s, m, args, below, meth, c, rfl, hx, hb, hml, hown, hts, hlk, hrt, hT, hZ, hz, hex, hini, hst⟩ := C
  intro H locs ls K hl
  exact lv_ladd hx hb d (k H locs ls K hl)
theorem r_lsub (C : Cx G l V cc nL own fr lo mc ms Q X rt hh ini) {x y : Int64} (d : decode cc pc = .ok (.lsub, 1))
    (k : V h cn n (pc + 1) L (.long (x - y) :: rest)) : V h cn n pc L (.long y :: .long x :: rest) := by
  obtain ⟨p, e, s, m, args, below, meth, c, rfl, hx, hb, hml, hown, hts, hlk, hrt, hT, hZ, hz, hex, hini, hst⟩ := C
  intro H locs ls K hl
  exact lv_lsub hx hb d (k H locs ls K hl)
theorem r_lmul (C : Cx G l V cc nL own fr lo mc ms Q X rt hh ini) {x y : Int64} (d : decode cc pc = .ok (.lmul, 1))
    (k : V h cn n (pc + 1) L (.long (x * y) :: rest)) : V h cn n pc L (.long y :: .long x :: rest) := by
  obtain ⟨p, e, s, m, args, below, meth, c, rfl, hx, hb, hml, hown, hts, hlk, hrt, hT, hZ, hz, hex, hini, hst⟩ := C
  intro H locs ls K hl
  exact lv_lmul hx hb d (k H locs ls K hl)
theorem r_land (C : Cx G l V cc nL own fr lo mc ms Q X rt hh ini) {x y : Int64} (d : decode cc pc = .ok (.land, 1))
    (k : V h cn n (pc + 1) L (.long (x &&& y) :: rest)) : V h cn n pc L (.long y :: .long x :: rest) := by
  obtain ⟨p, e, s, m, args, below, meth, c, rfl, hx, hb, hml, hown, hts, hlk, hrt, hT, hZ, hz, hex, hini, hst⟩ := C
  intro H locs ls K hl
  exact lv_land hx hb d (k H locs ls K hl)
theorem r_lor (C : Cx G l V cc nL own fr lo mc ms Q X rt hh ini) {x y : Int64} (d : decode cc pc = .ok (.lor, 1))
    (k : V h cn n (pc + 1) L (.long (x ||| y) :: rest)) : V h cn n pc L (.long y :: .long x :: rest) := by
  obtain ⟨p, e, s, m, args, below, meth, c, rfl, hx, hb, hml, hown, hts, hlk, hrt, hT, hZ, hz, hex, hini, hst⟩ := C
  intro H locs ls K hl
  exact lv_lor hx hb d (k H locs ls K hl)
theorem r_lxor (C : Cx G l V cc nL own fr lo mc ms Q X rt hh ini) {x y : Int64} (d : decode cc pc = .ok (.lxor, 1))
    (k : V h cn n (pc + 1) L (.long (x ^^^ y) :: rest)) : V h cn n pc L (.long y :: .long x :: rest) := by
  obtain ⟨p, e, s, m, args, below, meth, c, rfl, hx, hb, hml, hown, hts, hlk, hrt, hT, hZ, hz, hex, hini, hst⟩ := C
  intro H locs ls K hl
  exact lv_lxor hx hb d (k H locs ls K hl)
theorem r_ldiv (C : Cx G l V cc nL own fr lo mc ms Q X rt hh ini) {x y : Int64} (hy : ¬ y = 0) (d : decode cc pc = .ok (.ldiv, 1))
    (k : V h cn n (pc + 1) L (.long (x / y) :: rest)) : V h cn n pc L (.long y :: .long x :: rest) := by
  obtain ⟨p, e, s, m, args, below, meth, c, rfl, hx, hb, hml, hown, hts, hlk, hrt, hT, hZ, hz, hex, hini, hst⟩ := C
  intro H locs ls K hl
  exact lv_ldiv hx hb d hy (k H locs ls K hl)
theorem r_lrem (C : Cx G l V cc nL own fr lo mc ms Q X rt hh ini) {x y : Int64} (hy : ¬ y = 0) (d : decode cc pc = .ok (.lrem, 1))
    (k : V h cn n (pc + 1) L (.long (x - x / y * y) :: rest)) : V h cn n pc L (.long y :: .long x :: rest) := by
  obtain ⟨p, e, s, m, args, below, meth, c, rfl, hx, hb, hml, hown, hts, hlk, hrt, hT, hZ, hz, hex, hini, hst⟩ := C
  intro H locs ls K hl
  exact lv_lrem hx hb d hy (k H locs ls K hl)
theorem r_lushr (C : Cx G l V cc nL own fr lo mc ms Q X rt hh ini) {x : Int64} {y : Int32} (d : decode cc pc = .ok (.lushr, 1))
    (k : V h cn n (pc + 1) L (.long ((x.toUInt64 >>> (y.toInt64.toUInt64 &&& Int64.toUInt64 63)).toInt64) :: rest)) : V h cn n pc L (.int y :: .long x :: rest) := by
  obtain ⟨p, e, s, m, args, below, meth, c, rfl, hx, hb, hml, hown, hts, hlk, hrt, hT, hZ, hz, hex, hini, hst⟩ := C
  intro H locs ls K hl
  exact lv_lushr hx hb d rfl (k H locs ls K hl)
theorem r_lshl (C : Cx G l V cc nL own fr lo mc ms Q X rt hh ini) {x : Int64} {y : Int32} (d : decode cc pc = .ok (.lshl, 1))
    (k : V h cn n (pc + 1) L (.long (x <<< (y.toInt64 &&& 63)) :: rest)) : V h cn n pc L (.int y :: .long x :: rest) := by
  obtain ⟨p, e, s, m, args, below, meth, c, rfl, hx, hb, hml, hown, hts, hlk, hrt, hT, hZ, hz, hex, hini, hst⟩ := C
  intro H locs ls K hl
  exact lv_lshl hx hb d rfl (k H locs ls K hl)
theorem r_i2l (C : Cx G l V cc nL own fr lo mc ms Q X rt hh ini) {x : Int32} (d : decode cc pc = .ok (.i2l, 1))
    (k : V h cn n (pc + 1) L (.long x.toInt64 :: rest)) : V h cn n pc L (.int x :: rest) := by
  obtain ⟨p, e, s, m, args, below, meth, c, rfl, hx, hb, hml, hown, hts, hlk, hrt, hT, hZ, hz, hex, hini, hst⟩ := C
  intro H locs ls K hl
  exact lv_i2l hx hb d rfl (k H locs ls K hl)
theorem r_l2i (C : Cx G l V cc nL own fr lo mc ms Q X rt hh ini) {x : Int64} (d : decode cc pc = .ok (.l2i, 1))
    (k : V h cn n (pc + 1) L (.int x.toInt32 :: rest)) : V h cn n pc L (.long x :: rest) := by
  obtain ⟨p, e, s, m, args, below, meth, c, rfl, hx, hb, hml, hown, hts, hlk, hrt, hT, hZ, hz, hex, hini, hst⟩ := C
  intro H locs ls K hl
  exact lv_l2i hx hb d rfl (k H locs ls K hl)
theorem r_lcmp (C : Cx G l V cc nL own fr lo mc ms Q X rt hh ini) {x y : Int64} (d : decode cc pc = .ok (.lcmp, 1))
    (k : V h cn n (pc + 1) L (.int (lg_cmp x y) :: rest)) : V h cn n pc L (.long y :: .long x :: rest) := by
  obtain ⟨p, e, s, m, args, below, meth, c, rfl, hx, hb, hml, hown, hts, hlk, hrt, hT, hZ, hz, hex, hini, hst⟩ := C
  intro H locs ls K hl
  exact W.lcmp hx hb d (k H locs ls K hl)
theorem r_dup (C : Cx G l V cc nL own fr lo mc ms Q X rt hh ini) {a : Value} (ha : a.category = 1) (d : decode cc pc = .ok (.dup, 1))
    (k : V h cn n (pc + 1) L (a :: a :: rest)) : V h cn n pc L (a :: rest) := by
  obtain ⟨p, e, s, m, args, below, meth, c, rfl, hx, hb, hml, hown, hts, hlk, hrt, hT, hZ, hz, hex, hini, hst⟩ := C
  intro H locs ls K hl
  exact lv_dup hx hb d ha (k H locs ls K hl)
theorem r_pop (C : Cx G l V cc nL own fr lo mc ms Q X rt hh ini) {a : Value} (ha : a.category = 1) (d : decode cc pc = .ok (.pop, 1))
    (k : V h cn n (pc + 1) L (rest)) : V h cn n pc L (a :: rest) := by
  obtain ⟨p, e, s, m, args, below, meth, c, rfl, hx, hb, hml, hown, hts, hlk, hrt, hT, hZ, hz, hex, hini, hst⟩ := C
  intro H locs ls K hl
  exact lv_pop hx hb d ha (k H locs ls K hl)
theorem r_dup_x1 (C : Cx G l V cc nL own fr lo mc ms Q X rt hh ini) {a b : Value} (ha : a.category = 1) (hb' : b.category = 1) (d : decode cc pc = .ok (.dup_x1, 1))
    (k : V h cn n (pc + 1) L (a :: b :: a :: rest)) : V h cn n pc L (a :: b :: rest) := by
  obtain ⟨p, e, s, m, args, below, meth, c, rfl, hx, hb, hml, hown, hts, hlk, hrt, hT, hZ, hz, hex, hini, hst⟩ := C
  intro H locs ls K hl
  exact lv_dup_x1 hx hb d ha hb' (k H locs ls K hl)
theorem r_dup2_11 (C : Cx G l V cc nL own fr lo mc ms Q X rt hh ini) {a b : Value} (ha : a.category = 1) (hb' : b.category = 1) (d : decode cc pc = .ok (.dup2, 1))
    (k : V h cn n (pc + 1) L (a :: b :: a :: b :: rest)) : V h cn n pc L (a :: b :: rest) := by
  obtain ⟨p, e, s, m, args, below, meth, c, rfl, hx, hb, hml, hown, hts, hlk, hrt, hT, hZ, hz, hex, hini, hst⟩ := C
  intro H locs ls K hl
  exact lv_dup2_11 hx hb d ha hb' (k H locs ls K hl)
theorem r_dup2_2 (C : Cx G l V cc nL own fr lo mc ms Q X rt hh ini) {a : Value} (ha : a.category = 2) (d : decode cc pc = .ok (.dup2, 1))
    (k : V h cn n (pc + 1) L (a :: a :: rest)) : V h cn n pc L (a :: rest) := by
  obtain ⟨p, e, s, m, args, below, meth, c, rfl, hx, hb, hml, hown, hts, hlk, hrt, hT, hZ, hz, hex, hini, hst⟩ := C
  intro H locs ls K hl
  exact lv_dup2_2 hx hb d ha (k H locs ls K hl)
theorem r_null (C : Cx G l V cc nL own fr lo mc ms Q X rt hh ini) (d : decode cc pc = .ok (.aconst_null, 1))
    (k : V h cn n (pc + 1) L (.null :: rest)) : V h cn n pc L (rest) := by
  obtain ⟨p, e, s, m, args, below, meth, c, rfl, hx, hb, hml, hown, hts, hlk, hrt, hT, hZ, hz, hex, hini, hst⟩ := C
  intro H locs ls K hl
  exact lv_null hx hb d (k H locs ls K hl)
theorem r_goto (C : Cx G l V cc nL own fr lo mc ms Q X rt hh ini) {off : Int} {tgt : Nat} (ht : (pc : Int) + off = (tgt : Int)) (d : decode cc pc = .ok (.goto off, 3))
    (k : V h cn n tgt L rest) : V h cn n pc L (rest) := by
  obtain ⟨p, e, s, m, args, below, meth, c, rfl, hx, hb, hml, hown, hts, hlk, hrt, hT, hZ, hz, hex, hini, hst⟩ := C
  intro H locs ls K hl
  exact lv_goto hx hb d ht (k H locs ls K hl)
theorem r_if_eq (C : Cx G l V cc nL own fr lo mc ms Q X rt hh ini) {x : Int32} {off : Int} {tgt : Nat} (ht : (pc : Int) + off = (tgt : Int)) (d : decode cc pc = .ok (.ifCond .eq off, 3))
    (kt : x = 0 → V h cn n tgt L rest) (kf : ¬ x = 0 → V h cn n (pc + 3) L rest) : V h cn n pc L (.int x :: rest) := by
  obtain ⟨p, e, s, m, args, below, meth, c, rfl, hx, hb, hml, hown, hts, hlk, hrt, hT, hZ, hz, hex, hini, hst⟩ := C
  intro H locs ls K hl
  exact lv_if_eq hx hb d ht (fun z => kt z H locs ls K hl) (fun z => kf z H locs ls K hl)
theorem r_icmp_eq (C : Cx G l V cc nL own fr lo mc ms Q X rt hh ini) {x y : Int32} {off : Int} {tgt : Nat} (ht : (pc : Int) + off = (tgt : Int)) (d : decode cc pc = .ok (.if_icmp .eq off, 3))
    (kt : x = y → V h cn n tgt L rest) (kf : ¬ x = y → V h cn n (pc + 3) L rest) : V h cn n pc L (.int y :: .int x :: rest) := by
  obtain ⟨p, e, s, m, args, below, meth, c, rfl, hx, hb, hml, hown, hts, hlk, hrt, hT, hZ, hz, hex, hini, hst⟩ := C
  intro H locs ls K hl
  exact lv_icmp_eq hx hb d ht (fun z => kt z H locs ls K hl) (fun z => kf z H locs ls K hl)
theorem r_if_ne (C : Cx G l V cc nL own fr lo mc ms Q X rt hh ini) {x : Int32} {off : Int} {tgt : Nat} (ht : (pc : Int) + off = (tgt : Int)) (d : decode cc pc = .ok (.ifCond .ne off, 3))
    (kt : ¬ x = 0 → V h cn n tgt L rest) (kf : x = 0 → V h cn n (pc + 3) L rest) : V h cn n pc L (.int x :: rest) := by
  obtain ⟨p, e, s, m, args, below, meth, c, rfl, hx, hb, hml, hown, hts, hlk, hrt, hT, hZ, hz, hex, hini, hst⟩ := C
  intro H locs ls K hl
  exact lv_if_ne hx hb d ht (fun z => kt z H locs ls K hl) (fun z => kf z H locs ls K hl)
theorem r_icmp_ne (C : Cx G l V cc nL own fr lo mc ms Q X rt hh ini) {x y : Int32} {off : Int} {tgt : Nat} (ht : (pc : Int) + off = (tgt : Int)) (d : decode cc pc = .ok (.if_icmp .ne off, 3))
    (kt : ¬ x = y → V h cn n tgt L rest) (kf : x = y → V h cn n (pc + 3) L rest) : V h cn n pc L (.int y :: .int x :: rest) := by
  obtain ⟨p, e, s, m, args, below, meth, c, rfl, hx, hb, hml, hown, hts, hlk, hrt, hT, hZ, hz, hex, hini, hst⟩ := C
  intro H locs ls K hl
  exact lv_icmp_ne hx hb d ht (fun z => kt z H locs ls K hl) (fun z => kf z H locs ls K hl)
theorem r_if_lt (C : Cx G l V cc nL own fr lo mc ms Q X rt hh ini) {x : Int32} {off : Int} {tgt : Nat} (ht : (pc : Int) + off = (tgt : Int)) (d : decode cc pc = .ok (.ifCond .lt off, 3))
    (kt : x < 0 → V h cn n tgt L rest) (kf : ¬ x < 0 → V h cn n (pc + 3) L rest) : V h cn n pc L (.int x :: rest) := by
  obtain ⟨p, e, s, m, args, below, meth, c, rfl, hx, hb, hml, hown, hts, hlk, hrt, hT, hZ, hz, hex, hini, hst⟩ := C
  intro H locs ls K hl
  exact lv_if_lt hx hb d ht (fun z => kt z H locs ls K hl) (fun z => kf z H locs ls K hl)
theorem r_icmp_lt (C : Cx G l V cc nL own fr lo mc ms Q X rt hh ini) {x y : Int32} {off : Int} {tgt : Nat} (ht : (pc : Int) + off = (tgt : Int)) (d : decode cc pc = .ok (.if_icmp .lt off, 3))
    (kt : x < y → V h cn n tgt L rest) (kf : ¬ x < y → V h cn n (pc + 3) L rest) : V h cn n pc L (.int y :: .int x :: rest) := by
  obtain ⟨p, e, s, m, args, below, meth, c, rfl, hx, hb, hml, hown, hts, hlk, hrt, hT, hZ, hz, hex, hini, hst⟩ := C
  intro H locs ls K hl
  exact lv_icmp_lt hx hb d ht (fun z => kt z H locs ls K hl) (fun z => kf z H locs ls K hl)
theorem r_if_ge (C : Cx G l V cc nL own fr lo mc ms Q X rt hh ini) {x : Int32} {off : Int} {tgt : Nat} (ht : (pc : Int) + off = (tgt : Int)) (d : decode cc pc = .ok (.ifCond .ge off, 3))
    (kt : 0 ≤ x → V h cn n tgt L rest) (kf : ¬ 0 ≤ x → V h cn n (pc + 3) L rest) : V h cn n pc L (.int x :: rest) := by
  obtain ⟨p, e, s, m, args, below, meth, c, rfl, hx, hb, hml, hown, hts, hlk, hrt, hT, hZ, hz, hex, hini, hst⟩ := C
  intro H locs ls K hl
  exact lv_if_ge hx hb d ht (fun z => kt z H locs ls K hl) (fun z => kf z H locs ls K hl)
theorem r_icmp_ge (C : Cx G l V cc nL own fr lo mc ms Q X rt hh ini) {x y : Int32} {off : Int} {tgt : Nat} (ht : (pc : Int) + off = (tgt : Int)) (d : decode cc pc = .ok (.if_icmp .ge off, 3))
    (kt : y ≤ x → V h cn n tgt L rest) (kf : ¬ y ≤ x → V h cn n (pc + 3) L rest) : V h cn n pc L (.int y :: .int x :: rest) := by
  obtain ⟨p, e, s, m, args, below, meth, c, rfl, hx, hb, hml, hown, hts, hlk, hrt, hT, hZ, hz, hex, hini, hst⟩ := C
  intro H locs ls K hl
  exact lv_icmp_ge hx hb d ht (fun z => kt z H locs ls K hl) (fun z => kf z H locs ls K hl)
theorem r_if_gt (C : Cx G l V cc nL own fr lo mc ms Q X rt hh ini) {x : Int32} {off : Int} {tgt : Nat} (ht : (pc : Int) + off = (tgt : Int)) (d : decode cc pc = .ok (.ifCond .gt off, 3))
    (kt : 0 < x → V h cn n tgt L rest) (kf : ¬ 0 < x → V h cn n (pc + 3) L rest) : V h cn n pc L (.int x :: rest) := by
  obtain ⟨p, e, s, m, args, below, meth, c, rfl, hx, hb, hml, hown, hts, hlk, hrt, hT, hZ, hz, hex, hini, hst⟩ := C
  intro H locs ls K hl
  exact lv_if_gt hx hb d ht (fun z => kt z H locs ls K hl) (fun z => kf z H locs ls K hl)
theorem r_icmp_gt (C : Cx G l V cc nL own fr lo mc ms Q X rt hh ini) {x y : Int32} {off : Int} {tgt : Nat} (ht : (pc : Int) + off = (tgt : Int)) (d : decode cc pc = .ok (.if_icmp .gt off, 3))
    (kt : y < x → V h cn n tgt L rest) (kf : ¬ y < x → V h cn n (pc + 3) L rest) : V h cn n pc L (.int y :: .int x :: rest) := by
  obtain ⟨p, e, s, m, args, below, meth, c, rfl, hx, hb, hml, hown, hts, hlk, hrt, hT, hZ, hz, hex, hini, hst⟩ := C
  intro H locs ls K hl
  exact lv_icmp_gt hx hb d ht (fun z => kt z H locs ls K hl) (fun z => kf z H locs ls K hl)
theorem r_if_le (C : Cx G l V cc nL own fr lo mc ms Q X rt hh ini) {x : Int32} {off : Int} {tgt : Nat} (ht : (pc : Int) + off = (tgt : Int)) (d : decode cc pc = .ok (.ifCond .le off, 3))
    (kt : x ≤ 0 → V h cn n tgt L rest) (kf : ¬ x ≤ 0 → V h cn n (pc + 3) L rest) : V h cn n pc L (.int x :: rest) := by
  obtain ⟨p, e, s, m, args, below, meth, c, rfl, hx, hb, hml, hown, hts, hlk, hrt, hT, hZ, hz, hex, hini, hst⟩ := C
  intro H locs ls K hl
  exact lv_if_le hx hb d ht (fun z => kt z H locs ls K hl) (fun z => kf z H locs ls K hl)
theorem r_icmp_le (C : Cx G l V cc nL own fr lo mc ms Q X rt hh ini) {x y : Int32} {off : Int} {tgt : Nat} (ht : (pc : Int) + off = (tgt : Int)) (d : decode cc pc = .ok (.if_icmp .le off, 3))
    (kt : x ≤ y → V h cn n tgt L rest) (kf : ¬ x ≤ y → V h cn n (pc + 3) L rest) : V h cn n pc L (.int y :: .int x :: rest) := by
  obtain ⟨p, e, s, m, args, below, meth, c, rfl, hx, hb, hml, hown, hts, hlk, hrt, hT, hZ, hz, hex, hini, hst⟩ := C
  intro H locs ls K hl
  exact lv_icmp_le hx hb d ht (fun z => kt z H locs ls K hl) (fun z => kf z H locs ls K hl)
theorem r_if_eq_b (C : Cx G l V cc nL own fr lo mc ms Q X rt hh ini) {x : Bool} {off : Int} {tgt : Nat} (ht : (pc : Int) + off = (tgt : Int)) (d : decode cc pc = .ok (.ifCond .eq off, 3))
    (kt : x = false → V h cn n tgt L rest) (kf : x = true → V h cn n (pc + 3) L rest) : V h cn n pc L (.int (bI x) :: rest) := by
  obtain ⟨p, e, s, m, args, below, meth, c, rfl, hx, hb, hml, hown, hts, hlk, hrt, hT, hZ, hz, hex, hini, hst⟩ := C
  intro H locs ls K hl
  exact lv_if_eq hx hb d ht (fun z => kt (by cases x <;> simp_all [bI]) H locs ls K hl) (fun z => kf (by cases x <;> simp_all [bI]) H locs ls K hl)
theorem r_acmp_eq (C : Cx G l V cc nL own fr lo mc ms Q X rt hh ini) {x y : Option Nat} {off : Int} {tgt : Nat} (ht : (pc : Int) + off = (tgt : Int)) (d : decode cc pc = .ok (.if_acmp .eq off, 3))
    (kt : x = y → V h cn n tgt L rest) (kf : ¬ x = y → V h cn n (pc + 3) L rest) : V h cn n pc L (va_rf y :: va_rf x :: rest) := by
  obtain ⟨p, e, s, m, args, below, meth, c, rfl, hx, hb, hml, hown, hts, hlk, hrt, hT, hZ, hz, hex, hini, hst⟩ := C
  intro H locs ls K hl
  exact lv_acmp_eq hx hb d ht (fun z => kt z H locs ls K hl) (fun z => kf z H locs ls K hl)
theorem r_if_ne_b (C : Cx G l V cc nL own fr lo mc ms Q X rt hh ini) {x : Bool} {off : Int} {tgt : Nat} (ht : (pc : Int) + off = (tgt : Int)) (d : decode cc pc = .ok (.ifCond .ne off, 3))
    (kt : x = true → V h cn n tgt L rest) (kf : x = false → V h cn n (pc + 3) L rest) : V h cn n pc L (.int (bI x) :: rest) := by
  obtain ⟨p, e, s, m, args, below, meth, c, rfl, hx, hb, hml, hown, hts, hlk, hrt, hT, hZ, hz, hex, hini, hst⟩ := C
  intro H locs ls K hl
  exact lv_if_ne hx hb d ht (fun z => kt (by cases x <;> simp_all [bI]) H locs ls K hl) (fun z => kf (by cases x <;> simp_all [bI]) H locs ls K hl)
theorem r_acmp_ne (C : Cx G l V cc nL own fr lo mc ms Q X rt hh ini) {x y : Option Nat} {off : Int} {tgt : Nat} (ht : (pc : Int) + off = (tgt : Int)) (d : decode cc pc = .ok (.if_acmp .ne off, 3))
    (kt : ¬ x = y → V h cn n tgt L rest) (kf : x = y → V h cn n (pc + 3) L rest) : V h cn n pc L (va_rf y :: va_rf x :: rest) := by
  obtain ⟨p, e, s, m, args, below, meth, c, rfl, hx, hb, hml, hown, hts, hlk, hrt, hT, hZ, hz, hex, hini, hst⟩ := C
  intro H locs ls K hl
  exact lv_acmp_ne hx hb d ht (fun z => kt z H locs ls K hl) (fun z => kf z H locs ls K hl)
theorem r_ifnull (C : Cx G l V cc nL own fr lo mc ms Q X rt hh ini) {x : Option Nat} {off : Int} {tgt : Nat} (ht : (pc : Int) + off = (tgt : Int)) (d : decode cc pc = .ok (.ifnull off, 3))
    (kt : x = none → V h cn n tgt L rest) (kf : ∀ a : Nat, x = some a → V h cn n (pc + 3) L rest) : V h cn n pc L (va_rf x :: rest) := by
  obtain ⟨p, e, s, m, args, below, meth, c, rfl, hx, hb, hml, hown, hts, hlk, hrt, hT, hZ, hz, hex, hini, hst⟩ := C
  intro H locs ls K hl
  cases x with
  | none => exact lv_ifnullN hx hb d ht (kt rfl H locs ls K hl)
  | some a => exact lv_ifnull hx hb d (kf a rfl H locs ls K hl)
theorem r_ifnonnull (C : Cx G l V cc nL own fr lo mc ms Q X rt hh ini) {x : Option Nat} {off : Int} {tgt : Nat} (ht : (pc : Int) + off = (tgt : Int)) (d : decode cc pc = .ok (.ifnonnull off, 3))
    (kt : ∀ a : Nat, x = some a → V h cn n tgt L rest) (kf : x = none → V h cn n (pc + 3) L rest) : V h cn n pc L (va_rf x :: rest) := by
  obtain ⟨p, e, s, m, args, below, meth, c, rfl, hx, hb, hml, hown, hts, hlk, hrt, hT, hZ, hz, hex, hini, hst⟩ := C
  intro H locs ls K hl
  cases x with
  | none => exact lv_ifnonnullN hx hb d (kf rfl H locs ls K hl)
  | some a => exact lv_ifnonnull hx hb d ht (kt a rfl H locs ls K hl)
theorem r_lookup (C : Cx G l V cc nL own fr lo mc ms Q X rt hh ini) {dflt : Int} {ps : Array (Int × Int)} {len : Nat} {x : Int32} {off : Int} {tgt : Nat} (hp : (ps.toList.zip (ps.toList.drop 1)).all (fun (a, next) => a.1 < next.1) = true) (ho : Op.lookupswitch.offset ps.toList dflt x.toInt = off) (ht : (pc : Int) + off = (tgt : Int)) (d : decode cc pc = .ok (.lookupswitch dflt ps, len))
    (k : V h cn n tgt L rest) : V h cn n pc L (.int x :: rest) := by
  obtain ⟨p, e, s, m, args, below, meth, c, rfl, hx, hb, hml, hown, hts, hlk, hrt, hT, hZ, hz, hex, hini, hst⟩ := C
  intro H locs ls K hl
  exact lv_lookup hx hb d hp ho ht (k H locs ls K hl)
theorem r_tableOut (C : Cx G l V cc nL own fr lo mc ms Q X rt hh ini) {dflt low high : Int} {offs : Array Int} {len : Nat} {x : Int32} {tgt : Nat} (hq : x.toInt < low ∨ high < x.toInt) (ht : (pc : Int) + dflt = (tgt : Int)) (d : decode cc pc = .ok (.tableswitch dflt low high offs, len))
    (k : V h cn n tgt L rest) : V h cn n pc L (.int x :: rest) := by
  obtain ⟨p, e, s, m, args, below, meth, c, rfl, hx, hb, hml, hown, hts, hlk, hrt, hT, hZ, hz, hex, hini, hst⟩ := C
  intro H locs ls K hl
  exact lv_tableOut hx hb d hq ht (k H locs ls K hl)
theorem r_tableIn (C : Cx G l V cc nL own fr lo mc ms Q X rt hh ini) {dflt low high : Int} {offs : Array Int} {len : Nat} {x : Int32} {off : Int} {tgt : Nat} (h1 : ¬ x.toInt < low) (h2 : ¬ high < x.toInt) (ho : offs[(x.toInt - low).toNat]? = some off) (ht : (pc : Int) + off = (tgt : Int)) (d : decode cc pc = .ok (.tableswitch dflt low high offs, len))
    (k : V h cn n tgt L rest) : V h cn n pc L (.int x :: rest) := by
  obtain ⟨p, e, s, m, args, below, meth, c, rfl, hx, hb, hml, hown, hts, hlk, hrt, hT, hZ, hz, hex, hini, hst⟩ := C
  intro H locs ls K hl
  exact lv_tableIn hx hb d h1 h2 ho ht (k H locs ls K hl)
end
/-! THE HEAP's ROWS -/
section
variable {G : gT} {l : Launch} {V : Hp → Nat → Nat → Nat → List (Nat × Value) → List Value → Prop} {cc : ByteArray} {nL : Nat} {own : String} {fr lo mc ms : Nat} {Q : Option Value → Hp → Prop} {X : Option (String → Hp → Prop)} {rt : Option FieldType} {hh : List (Nat × Nat × Nat × Nat)} {ini : Bool}
variable {h : Hp} {cn n pc : Nat} {L : List (Nat × Value)} {rest : List Value}
theorem one_P {G : gT} {a ci : Nat} {fs : List Value} {H : Heap} (z : vaO G a ci fs H) : va_P (gD G) clAll [(a, .inr (ci, fs))] H := fun k p hk => by
  match k, hk with
  | 0, hk => cases hk; exact z
  | k + 1, hk => simp at hk
theorem oneA_P {G : gT} {a t : Nat} {v : vp_A} {H : Heap} (z : vaA G a t v H) : va_P (gD G) clAll [(a, .inl (gA G t, v))] H := fun k p hk => by
  match k, hk with
  | 0, hk => cases hk; exact z
  | k + 1, hk => simp at hk
/-- a class of clAll: its words, its fields' types -/
def ClsOK (ci : Nat) (C : String) (T : u_T) (N : Nat) (ty : Nat → FieldType) : Prop := clAll[ci]? = some (C, T, N) ∧ (∀ w ∈ u_ws C T N, w ∈ lw_all) ∧ (∀ k, k < N → parseFieldDescriptor (T k).2.2.1 = some (ty k)) ∧ ∀ a, a < N → ∀ b, b < N → a ≠ b → (T a).2.1 ≠ (T b).2.1
theorem kX1 : ClsOK 0 RX1 TX1 7 tyX1 := ⟨rfl, in_X1, tyX1_ok, nmX1⟩
theorem kX2 : ClsOK 1 RX2 TX2 6 tyX2 := ⟨rfl, in_X2, tyX2_ok, nmX2⟩
theorem kX3 : ClsOK 2 RX3 TX3 18 tyX3 := ⟨rfl, in_X3, tyX3_ok, nmX3⟩
theorem kX4 : ClsOK 3 RX4 TX4 2 tyX4 := ⟨rfl, in_X4, tyX4_ok, nmX4⟩
theorem kX5 : ClsOK 4 RX5 TX5 4 tyX5 := ⟨rfl, in_X5, tyX5_ok, nmX5⟩
theorem kX6 : ClsOK 5 RX6 TX6 6 tyX6 := ⟨rfl, in_X6, tyX6_ok, nmX6⟩
theorem kX7 : ClsOK 6 RX7 TX7 3 tyX7 := ⟨rfl, in_X7, tyX7_ok, nmX7⟩
theorem kX8 : ClsOK 7 RX8 TX8 3 tyX8 := ⟨rfl, in_X8, tyX8_ok, nmX8⟩
theorem kJ2 : ClsOK 8 RJ2 TJ2 3 tyJ2 := ⟨rfl, in_J2, tyJ2_ok, nmJ2⟩
theorem kJ4 : ClsOK 9 RJ4 TJ4 4 tyJ4 := ⟨rfl, in_J4, tyJ4_ok, nmJ4⟩
theorem kJ8 : ClsOK 10 RJ8 TJ8 3 tyJ8 := ⟨rfl, in_J8, tyJ8_ok, nmJ8⟩
theorem kJ9 : ClsOK 11 RJ9 TJ9 3 tyJ9 := ⟨rfl, in_J9, tyJ9_ok, nmJ9⟩
theorem kJ24 : ClsOK 12 RJ24 TJ24 1 tyJ24 := ⟨rfl, in_J24, tyJ24_ok, nmJ24⟩
theorem kJ25 : ClsOK 13 RJ25 TJ25 4 tyJ25 := ⟨rfl, in_J25, tyJ25_ok, nmJ25⟩
theorem kJ28 : ClsOK 14 RJ28 TJ28 5 tyJ28 := ⟨rfl, in_J28, tyJ28_ok, nmJ28⟩
theorem kJ30 : ClsOK 15 RJ30 TJ30 3 tyJ30 := ⟨rfl, in_J30, tyJ30_ok, nmJ30⟩
/-- where a field's link is: in the words of every method, or a nest mate's -/
def FLk (own : String) (ix : Nat) (ref nm d : String) : Prop := Cond.fieldLink own ix ref nm d ∈ lw_all ∨ ∃ host : String, Cond.fieldLinkNest own ix ref nm d host ∈ nwL
def SmF (C ref nm d : String) : Prop := C = ref ∨ Cond.sameField ref C nm d ∈ lw_all
theorem SmF.use {C ref nm d : String} {s : State} {args : Array Value} (hts : ∀ w ∈ lw_all, w.before args s = true) (h : SmF C ref nm d) : ∀ x, s.fieldFound? C nm d = some x → s.fieldFound? ref nm d = some x := by
  rcases h with rfl | h
  · exact fun x hx => hx
  · exact fun x hx => u_same (hts _ h) x hx
theorem W_getF {p : Program} {l : Launch} {e : Env} {R : Room} {s : State} {m : MethodId} {args : Array Value} {below : List Frame} {meth : Method} {c : Code} {H : Heap} {locs : List Loc} {cells slots : Nat} {Qf : State → Prop} {cc : ByteArray} {ls : Array Slot} (hx : p.tables.exec = Jvm.exec) (hb : c.code = cc) (hts : ∀ w ∈ lw_all, w.before args s = true) (hown : s.vm.findClass own = some m.cls) (hT : Tb G s) {ci N k a ix : Nat} {C ref : String} {T : u_T} {ty : Nat → FieldType} (hC : ClsOK ci C T N ty) (hk : k < N) (hl : FLk own ix ref (T k).2.1 (T k).2.2.1) (hsm : SmF (T k).1 ref (T k).2.1 (T k).2.2.1) {fs : List Value} {v : Value} (hO : vaO G a ci fs H) (hv : fs[k]? = some v) (d : decode cc pc = .ok (.getfield ix, 3))
    (kk : W p l e R s m args below meth c H locs cells slots Qf (F0 m (pc + 3) ls (v :: rest))) : W p l e R s m args below meth c H locs cells slots Qf (F0 m pc ls (.ref a :: rest)) := by
  rcases hl with hl | ⟨host, hl⟩
  · exact va_get (ref := ref) hx hb hts hC.2.1 hown hT.1 (one_P hO) 0 rfl hC.1 k hk (hts _ hl) (hsm.use hts) hv d kk
  · exact va_getN (ref := ref) hx hb hts hC.2.1 hown hT.1 (one_P hO) 0 rfl hC.1 k hk (va_Nw.use rfl (hT.2.1 _ hl)) (hsm.use hts) hv d kk
theorem r_gfI (C : Cx G l V cc nL own fr lo mc ms Q X rt hh ini) {ci N k a ix : Nat} {Cn ref : String} {T : u_T} {ty : Nat → FieldType} (hC : ClsOK ci Cn T N ty) (hk : k < N) (hl : FLk own ix ref (T k).2.1 (T k).2.2.1) (hsm : SmF (T k).1 ref (T k).2.1 (T k).2.2.1) {K : Int32 → Prop} (d : decode cc pc = .ok (.getfield ix, 3)) (hw : gfI h a ci k K) (kk : ∀ x : Int32, K x → V h cn n (pc + 3) L (.int x :: rest)) : V h cn n pc L (.ref a :: rest) := by
  obtain ⟨p, e, s, m, args, below, meth, c, rfl, hx, hb, hml, hown, hts, hlk, hrt, hT, hZ, hz, hex, hini, hst⟩ := C
  intro H locs ls K hl'
  obtain ⟨fs, x, h1, h2, h3⟩ := hw
  exact W_getF hx hb hts hown hT hC hk hl hsm (K.1.obj h1).2 h2 d (kk x h3 H locs ls K hl')
theorem r_gfZ (C : Cx G l V cc nL own fr lo mc ms Q X rt hh ini) {ci N k a ix : Nat} {Cn ref : String} {T : u_T} {ty : Nat → FieldType} (hC : ClsOK ci Cn T N ty) (hk : k < N) (hl : FLk own ix ref (T k).2.1 (T k).2.2.1) (hsm : SmF (T k).1 ref (T k).2.1 (T k).2.2.1) {K : Bool → Prop} (d : decode cc pc = .ok (.getfield ix, 3)) (hw : gfZ h a ci k K) (kk : ∀ x : Bool, K x → V h cn n (pc + 3) L (.int (bI x) :: rest)) : V h cn n pc L (.ref a :: rest) := by
  obtain ⟨p, e, s, m, args, below, meth, c, rfl, hx, hb, hml, hown, hts, hlk, hrt, hT, hZ, hz, hex, hini, hst⟩ := C
  intro H locs ls K hl'
  obtain ⟨fs, x, h1, h2, h3⟩ := hw
  exact W_getF hx hb hts hown hT hC hk hl hsm (K.1.obj h1).2 h2 d (kk x h3 H locs ls K hl')
theorem r_gfR (C : Cx G l V cc nL own fr lo mc ms Q X rt hh ini) {ci N k a ix : Nat} {Cn ref : String} {T : u_T} {ty : Nat → FieldType} (hC : ClsOK ci Cn T N ty) (hk : k < N) (hl : FLk own ix ref (T k).2.1 (T k).2.2.1) (hsm : SmF (T k).1 ref (T k).2.1 (T k).2.2.1) {K : Option Nat → Prop} (d : decode cc pc = .ok (.getfield ix, 3)) (hw : gfR h a ci k K) (kk : ∀ x : Option Nat, K x → V h cn n (pc + 3) L (va_rf x :: rest)) : V h cn n pc L (.ref a :: rest) := by
  obtain ⟨p, e, s, m, args, below, meth, c, rfl, hx, hb, hml, hown, hts, hlk, hrt, hT, hZ, hz, hex, hini, hst⟩ := C
  intro H locs ls K hl'
  obtain ⟨fs, x, h1, h2, h3⟩ := hw
  exact W_getF hx hb hts hown hT hC hk hl hsm (K.1.obj h1).2 h2 d (kk x h3 H locs ls K hl')
theorem Wk.put {s : State} {H H1 : Heap} {locs : List Loc} {a i : Nat} {e0 e1 : E2} (K : Wk G s h H locs) (ha : h a = some e0) (hp : (∃ t v, e0 = eA t v) ∨ ∃ ci fs, e0 = eO ci fs) (hle : G.1 ≤ a) (hz : H1.size = H.size) (hq : ∀ q : Nat, q ≠ a → H1[q]? = H[q]?) (h1 : ∀ τ : Nat → Option Nat, τ a = some a → Rl G τ H1 a e1) : Wk G s (hup h a e1) H1 (locs ++ [⟨a, i⟩]) :=
  ⟨K.1.put ha hp hq hz h1, K.2.put hz hq hle⟩
/-- putfield: ordinary, a nest mate's, a final one in its constructor -/
theorem r_pf (C : Cx G l V cc nL own fr lo mc ms Q X rt hh ini) {ci N k a ix : Nat} {Cn ref : String} {T : u_T} {ty : Nat → FieldType} (hC : ClsOK ci Cn T N ty) (hk : k < N) (hl : FLk own ix ref (T k).2.1 (T k).2.2.1) (hsm : SmF (T k).1 ref (T k).2.1 (T k).2.2.1) (hfin : (T k).2.2.2 = false ∨ (ini = true ∧ (T k).1 = own ∧ Cond.fieldLink own ix ref (T k).2.1 (T k).2.2.1 ∈ lw_all)) {v : Value} (hn : narrow (ty k) v = v) (hfit : fits (ty k) v = true) {K : Hp → Prop} (d : decode cc pc = .ok (.putfield ix, 3)) (hw : pf h a ci k v K) (kk : ∀ h' : Hp, K h' → V h' cn n (pc + 3) L rest) : V h cn n pc L (v :: .ref a :: rest) := by
  obtain ⟨p, e, s, m, args, below, meth, c, rfl, hx, hb, hml, hown, hts, hlk, hrt, hT, hZ, hz, hex, hini, hst⟩ := C
  intro H locs ls K hl'
  obtain ⟨fs, h1, h2, h3⟩ := hw
  obtain ⟨hle, hO⟩ := K.1.obj h1
  have hap := va_apart (own := own) hts hC.2.1 ty hC.2.2.1 hC.2.2.2 hT.1 hC.1
  obtain ⟨r, g1, cell, q1, q2, q3, q4⟩ := hO
  have hr : r = (Cn, T, N) := Option.some.inj (g1.symm.trans hC.1)
  subst hr
  obtain ⟨hS, hfc, kC, hkC, hkind⟩ := hT.kn hC.1
  obtain ⟨cf, kf, fi, f, hi, hsl⟩ := hS k hk
  have hlays := u_lays hts hC.2.1 hk
  have hstt := (u_facts hfc hkC hlays hi).1
  have hnew : ∀ {H' : Heap}, H'[a]? = some (cell.setSlot f.slot v) → ∀ τ : Nat → Option Nat, τ a = some a → Rl G τ H' a (eO ci (fs.set k v)) := by
    intro H' e1 τ ht
    rw [hsl] at e1
    exact ⟨ht, hle, (Cn, T, N), g1, t_OB.to (V := updV (vp_V fs) k v) ⟨_, e1, q2, q3, t_set q4 hap hk v⟩ (fun j _ => vp_updV_set h2 v j)⟩
  rcases hfin with hfin | ⟨hi1, hi2, hi3⟩
  · have hlay := hts _ (hC.2.1 _ (u_in_lay hk))
    unfold u_lay at hlay
    rw [if_neg (by rw [hfin]; decide)] at hlay
    have h6 := u_store hfc hkC hkind hlay hi (hC.2.2.1 k hk) hn hfit
    rcases hl with hl | ⟨host, hl⟩
    · refine W.putK hx hb (f := f) ⟨hown, hts _ hl, ⟨_, _, _, hsm.use hts _ hi⟩, hstt⟩ (by rw [q2]; exact h6) q1 q3 (by rw [hsl]; exact k2_hasslot (q4 k hk)) rfl rfl d fun H' e1 e2 e3 => ?_
      exact kk _ h3 H' _ ls (K.put h1 (Or.inr ⟨ci, fs, rfl⟩) hle e2 e3 (hnew e1)) hl'
    · refine va_WputK hx hb (f := f) hown (va_Nw.use rfl (hT.2.1 _ hl)) (hsm.use hts _ hi) hstt (by rw [q2]; exact h6) q1 q3 (by rw [hsl]; exact k2_hasslot (q4 k hk)) rfl rfl d fun H' e1 e2 e3 => ?_
      exact kk _ h3 H' _ ls (K.put h1 (Or.inr ⟨ci, fs, rfl⟩) hle e2 e3 (hnew e1)) hl'
  · by_cases hf0 : (T k).2.2.2 = true
    · have hlay := hts _ (hC.2.1 _ (u_in_lay hk))
      unfold u_lay at hlay
      rw [if_pos hf0] at hlay
      have hcf : m.cls = cf := by
        obtain ⟨_, _, c', _, _, _, -, -, hf', -, -, -, hown2, -⟩ := Cond.laysFinal_spec hlay
        have e1 : c' = cf := by have := hi.symm.trans hf'; simp at this; exact this.1.symm
        rw [hi2] at hown2
        rw [← e1]; exact Option.some.inj (hown.symm.trans hown2)
      have h6 := u_fits hfc hkC hkind (Or.inr hlay) hi (hC.2.2.1 k hk) hn hfit
      refine W.putFinK hx hb hown (hts _ hi3) (hsm.use hts _ hi) hstt hcf (hini hi1) (by rw [q2]; exact h6) q1 q3 (by rw [hsl]; exact k2_hasslot (q4 k hk)) rfl rfl d fun H' e1 e2 e3 => ?_
      exact kk _ h3 H' _ ls (K.put h1 (Or.inr ⟨ci, fs, rfl⟩) hle e2 e3 (hnew e1)) hl'
    · have hlay := hts _ (hC.2.1 _ (u_in_lay hk))
      unfold u_lay at hlay
      rw [if_neg hf0] at hlay
      have h6 := u_store hfc hkC hkind hlay hi (hC.2.2.1 k hk) hn hfit
      refine W.putK hx hb (f := f) ⟨hown, hts _ hi3, ⟨_, _, _, hsm.use hts _ hi⟩, hstt⟩ (by rw [q2]; exact h6) q1 q3 (by rw [hsl]; exact k2_hasslot (q4 k hk)) rfl rfl d fun H' e1 e2 e3 => ?_
      exact kk _ h3 H' _ ls (K.put h1 (Or.inr ⟨ci, fs, rfl⟩) hle e2 e3 (hnew e1)) hl'
theorem Wk.push {s : State} {H H1 : Heap} {locs : List Loc} {e1 : E2} (K : Wk G s h H locs) (hz0 : G.1 ≤ s.heap.size) (hz : H1.size = H.size + 1) (hq : ∀ q : Nat, q < H.size → H1[q]? = H[q]?) (h1 : ∀ τ : Nat → Option Nat, τ H.size = some H.size → Rl G τ H1 H.size e1) : h H.size = none ∧ Wk G s (hup h H.size e1) H1 locs := by
  obtain ⟨g1, g2⟩ := K.1.push (Nat.le_trans hz0 K.2.1) hq h1
  exact ⟨g1, g2, Nat.le_trans K.2.1 (by omega), fun x h1 h2 => (hq x (Nat.lt_of_lt_of_le h1 K.2.1)).trans (K.2.2.1 x h1 h2), K.2.2.2⟩
theorem r_new (C : Cx G l V cc nL own fr lo mc ms Q X rt hh ini) {ci N ix : Nat} {Cn : String} {T : u_T} {ty : Nat → FieldType} (hC : ClsOK ci Cn T N ty) (hl : Cond.classLink own ix Cn ∈ lw_all) (hi : Cond.instantiable Cn N ∈ lw_all) (hin : Cond.initialized Cn ∈ lw_all) {fs : List Value} (hfs : ∀ j, j < N → defaultValue (ty j) = vp_V fs j) {K : Nat → Hp → Prop} (d : decode cc pc = .ok (.new ix, 3)) (hc1 : cn + 1 ≤ mc) (hs1 : n + N ≤ ms) (hw : nwO h ci fs K) (kk : ∀ (q : Nat) (h' : Hp), K q h' → V h' (cn + 1) (n + N) (pc + 3) L (.ref q :: rest)) : V h cn n pc L rest := by
  obtain ⟨p, e, s, m, args, below, meth, c, rfl, hx, hb, hml, hown, hts, hlk, hrt, hT, hZ, hz, hex, hini, hst⟩ := C
  intro H locs ls K hl'
  have hKn := hT.kn hC.1
  refine W.newcK hx hb hown (hts _ hl) (hts _ hi) (hts _ hin) rfl d hc1 hs1 hKn.2.1 rfl fun H1 kC hkC e1 z1 o1 => ?_
  obtain ⟨g1, g2⟩ := K.push (e1 := eO ci fs) hz z1 o1 (fun τ ht => ⟨ht, Nat.le_trans hz K.2.1, (Cn, T, N), hC.1, (u_born ty hts hC.2.1 hKn hkC e1 hC.2.2.1).to hfs⟩)
  exact kk _ _ (hw _ g1) H1 _ ls g2 hl'
/-- newarray of ints, longs, booleans -/
theorem r_newa (C : Cx G l V cc nL own fr lo mc ms Q X rt hh ini) {atype : ArrayType} (harr : Cond.arrayClass (newarray.typeOf atype) ∈ lw_all) {t : Nat} (ht : t < 6) (hty : newarray.typeOf atype = atys t) (hob : ∀ C', atys t ≠ .object C') {x : Int32} {N : Nat} {a0 : vp_A} (ha : ∀ cA : ClassId, vp_cell cA a0 = arrV cA N (fun _ => defaultValue (atys t))) (hn : ¬ x < 0) (hN : x.toNatClampNeg = N) (hby : N ≤ 60000) {K : Nat → Hp → Prop} (d : decode cc pc = .ok (.newarray atype, 2)) (hc1 : cn + 1 ≤ mc) (hs1 : n + N ≤ ms) (hw : nwA h t a0 K) (kk : ∀ (q : Nat) (h' : Hp), K q h' → V h' (cn + 1) (n + N) (pc + 2) L (.ref q :: rest)) : V h cn n pc L (.int x :: rest) := by
  obtain ⟨p, e, s, m, args, below, meth, c, rfl, hx, hb, hml, hown, hts, hlk, hrt, hT, hZ, hz, hex, hini, hst⟩ := C
  intro H locs ls K hl'
  have hb8 : N * componentBytes (newarray.typeOf atype) ≤ 536870912 := by
    have : componentBytes (newarray.typeOf atype) ≤ 8 := by cases atype <;> decide
    calc N * componentBytes (newarray.typeOf atype) ≤ 60000 * 8 := Nat.mul_le_mul hby this
      _ ≤ 536870912 := by decide
  refine va_newaK hx hb (hts _ harr) rfl d rfl hn hN hb8 hc1 hs1 rfl fun H1 cA e1 z1 o1 hAr hNm => ?_
  have hcA : cA = gA G t := by
    have h2 := (hT.at ht).2
    rw [hty] at hNm
    revert h2 hNm
    cases hat : atys t with
    | object C' => exact absurd hat (hob C')
    | _ => exact fun h2 h3 => Option.some.inj (h2.symm.trans h3)
  obtain ⟨g1, g2⟩ := K.push (e1 := eA t a0) hz z1 o1 (fun τ hτ => ⟨hτ, Nat.le_trans hz K.2.1, ht, by
    show H1[H.size]? = some (vp_cell (gA G t) a0)
    rw [ha, ← hcA, ← hty]
    exact e1⟩)
  exact kk _ _ (hw _ g1) H1 _ ls g2 hl'
theorem r_newq (C : Cx G l V cc nL own fr lo mc ms Q X rt hh ini) {ix t : Nat} {Cn : String} (hl : Cond.classLink own ix Cn ∈ lw_all) (hao : Cn ∈ aoL) (ht : t < 6) (hty : atys t = .object Cn) {x : Int32} {N : Nat} (hn : ¬ x < 0) (hN : x.toNatClampNeg = N) (hby : N ≤ 60000) {K : Nat → Hp → Prop} (d : decode cc pc = .ok (.anewarray ix, 3)) (hc1 : cn + 1 ≤ mc) (hs1 : n + N ≤ ms) (hw : nwA h t (N, .inr (.inr (.inr (.inr (fun _ => none))))) K) (kk : ∀ (q : Nat) (h' : Hp), K q h' → V h' (cn + 1) (n + N) (pc + 3) L (.ref q :: rest)) : V h cn n pc L (.int x :: rest) := by
  obtain ⟨p, e, s, m, args, below, meth, c, rfl, hx, hb, hml, hown, hts, hlk, hrt, hT, hZ, hz, hex, hini, hst⟩ := C
  intro H locs ls K hl'
  subst hN
  refine W.anew hx hb hown (hts _ hl) (va_AO.use (hT.2.2.2.1 _ hao)) rfl d rfl hn (by omega) hc1 hs1 fun cA kA comp f1 f2 f3 f4 => ?_
  have hcA : cA = gA G t := by
    have h2 := (hT.at ht).2
    rw [hty] at h2
    obtain ⟨kA', comp', -, -, -, h5⟩ := h2
    exact Option.some.inj (f1.symm.trans h5)
  subst hcA
  generalize hH1 : H.push ({ cls := gA G t, slots := Array.replicate x.toNatClampNeg .null, vm := .none } : Cell) = H1
  have z1 : H1.size = H.size + 1 := by rw [← hH1, Array.size_push]
  have e1 : H1[H.size]? = some (arrV (gA G t) x.toNatClampNeg (fun _ => .null)) := by rw [← hH1, Array.getElem?_push_size, ← arrV_new]
  have o1 : ∀ q : Nat, q < H.size → H1[q]? = H[q]? := fun q hq => by rw [← hH1, Array.getElem?_push, if_neg (Nat.ne_of_lt hq)]
  obtain ⟨g1, g2⟩ := K.push (e1 := aR t x.toNatClampNeg (fun _ => none)) hz z1 o1 (fun τ hτ => ⟨hτ, Nat.le_trans hz K.2.1, ht, by
    show H1[H.size]? = some (vp_cell _ _)
    rw [vp_cell_q]
    exact e1⟩)
  exact kk _ _ (hw _ g1) H1 _ ls g2 hl'
/-! rows of arrays -/
theorem r_iaload (C : Cx G l V cc nL own fr lo mc ms Q X rt hh ini) {a : Nat} {i : Int32} {K : Int32 → Prop} (d : decode cc pc = .ok (.iaload, 1)) (hw : rdI h a i K) (kk : ∀ x : Int32, K x → V h cn n (pc + 1) L (.int x :: rest)) : V h cn n pc L (.int i :: .ref a :: rest) := by
  obtain ⟨p, e, s, m, args, below, meth, c, rfl, hx, hb, hml, hown, hts, hlk, hrt, hT, hZ, hz, hex, hini, hst⟩ := C
  intro H locs ls K hl'
  obtain ⟨N, f, h1, h2, h3⟩ := hw
  exact va_iald hx hb hT.1 (oneA_P (K.1.arr h1).2.2) 0 0 rfl rfl h2 d (kk _ h3 H locs ls K hl')
theorem r_baload (C : Cx G l V cc nL own fr lo mc ms Q X rt hh ini) {a : Nat} {i : Int32} {K : Bool → Prop} (d : decode cc pc = .ok (.baload, 1)) (hw : rdZ h a i K) (kk : ∀ x : Bool, K x → V h cn n (pc + 1) L (.int (bI x) :: rest)) : V h cn n pc L (.int i :: .ref a :: rest) := by
  obtain ⟨p, e, s, m, args, below, meth, c, rfl, hx, hb, hml, hown, hts, hlk, hrt, hT, hZ, hz, hex, hini, hst⟩ := C
  intro H locs ls K hl'
  obtain ⟨N, f, h1, h2, h3⟩ := hw
  exact va_zald hx hb hT.1 (oneA_P (K.1.arr h1).2.2) 0 5 rfl rfl h2 d (kk _ h3 H locs ls K hl')
theorem r_laload (C : Cx G l V cc nL own fr lo mc ms Q X rt hh ini) {a : Nat} {i : Int32} {K : Int64 → Prop} (d : decode cc pc = .ok (.laload, 1)) (hw : rdL h a i K) (kk : ∀ x : Int64, K x → V h cn n (pc + 1) L (.long x :: rest)) : V h cn n pc L (.int i :: .ref a :: rest) := by
  obtain ⟨p, e, s, m, args, below, meth, c, rfl, hx, hb, hml, hown, hts, hlk, hrt, hT, hZ, hz, hex, hini, hst⟩ := C
  intro H locs ls K hl'
  obtain ⟨N, f, h1, h2, h3⟩ := hw
  exact va_lald hx hb hT.1 (oneA_P (K.1.arr h1).2.2) 0 1 rfl rfl h2 d (kk _ h3 H locs ls K hl')
theorem r_aaload (C : Cx G l V cc nL own fr lo mc ms Q X rt hh ini) {a t : Nat} {Cn : String} {i : Int32} {K : Option Nat → Prop} (hty : atys t = .object Cn) (d : decode cc pc = .ok (.aaload, 1)) (hw : rdR t h a i K) (kk : ∀ x : Option Nat, K x → V h cn n (pc + 1) L (va_rf x :: rest)) : V h cn n pc L (.int i :: .ref a :: rest) := by
  obtain ⟨p, e, s, m, args, below, meth, c, rfl, hx, hb, hml, hown, hts, hlk, hrt, hT, hZ, hz, hex, hini, hst⟩ := C
  intro H locs ls K hl'
  obtain ⟨N, f, h1, h2, h3⟩ := hw
  exact va_aldq hx hb hT.1 (oneA_P (K.1.arr h1).2.2) 0 t rfl (by rw [← hty]; exact tysOf_at G (K.1.arr h1).2.1) h2 d (kk _ h3 H locs ls K hl')
theorem r_iastore (C : Cx G l V cc nL own fr lo mc ms Q X rt hh ini) {a : Nat} {i x : Int32} {K : Hp → Prop} (d : decode cc pc = .ok (.iastore, 1)) (hw : wrI h a i x K) (kk : ∀ h' : Hp, K h' → V h' cn n (pc + 1) L rest) : V h cn n pc L (.int x :: .int i :: .ref a :: rest) := by
  obtain ⟨p, e, s, m, args, below, meth, c, rfl, hx, hb, hml, hown, hts, hlk, hrt, hT, hZ, hz, hex, hini, hst⟩ := C
  intro H locs ls K hl'
  obtain ⟨N, f, h1, h2, h3⟩ := hw
  obtain ⟨g1, g2, g3⟩ := K.1.arr h1
  refine W.iast hx hb g3 ((hT.at g2).1 N (fun j => .int (f j))) (fun q => by cases q) (by show ¬ (i < 0 ∨ (arrV _ _ _).slots.size ≤ _); rw [arrV_size]; exact h2) rfl rfl d fun H1 e1 z1 o1 => ?_
  refine kk _ h3 H1 _ ls (K.put h1 (Or.inl ⟨0, _, rfl⟩) g1 z1 o1 (fun τ ht => ⟨ht, g1, g2, ?_⟩)) hl'
  show H1[a]? = some (vp_cell _ _)
  rw [e1, vp_cell_i, vp_cell_i, arrV_store]
  congr 2
  funext q
  by_cases hq : q = i.toNatClampNeg
  · subst hq
    simp [updV, upd]
  · simp [updV, upd, hq]
theorem r_bastore (C : Cx G l V cc nL own fr lo mc ms Q X rt hh ini) {a : Nat} {i : Int32} {x : Bool} {K : Hp → Prop} (d : decode cc pc = .ok (.bastore, 1)) (hw : wrZ h a i x K) (kk : ∀ h' : Hp, K h' → V h' cn n (pc + 1) L rest) : V h cn n pc L (.int (bI x) :: .int i :: .ref a :: rest) := by
  obtain ⟨p, e, s, m, args, below, meth, c, rfl, hx, hb, hml, hown, hts, hlk, hrt, hT, hZ, hz, hex, hini, hst⟩ := C
  intro H locs ls K hl'
  obtain ⟨N, f, h1, h2, h3⟩ := hw
  obtain ⟨g1, g2, g3⟩ := K.1.arr h1
  refine W.zast hx hb g3 ((hT.at g2).1 N (fun j => .int (bI (f j)))) (fun q => by cases q) (by show ¬ (i < 0 ∨ (arrV _ _ _).slots.size ≤ _); rw [arrV_size]; exact h2) rfl rfl d fun H1 e1 z1 o1 => ?_
  refine kk _ h3 H1 _ ls (K.put h1 (Or.inl ⟨5, _, rfl⟩) g1 z1 o1 (fun τ ht => ⟨ht, g1, g2, ?_⟩)) hl'
  show H1[a]? = some (vp_cell _ _)
  rw [e1, vp_cell_i, vp_cell_i, arrV_store]
  congr 2
  funext q
  by_cases hq : q = i.toNatClampNeg
  · subst hq
    cases x <;> simp [updV, va_up, bI] <;> rfl
  · simp [updV, va_up, hq]
theorem r_lastore (C : Cx G l V cc nL own fr lo mc ms Q X rt hh ini) {a : Nat} {i : Int32} {x : Int64} {K : Hp → Prop} (d : decode cc pc = .ok (.lastore, 1)) (hw : wrL h a i x K) (kk : ∀ h' : Hp, K h' → V h' cn n (pc + 1) L rest) : V h cn n pc L (.long x :: .int i :: .ref a :: rest) := by
  obtain ⟨p, e, s, m, args, below, meth, c, rfl, hx, hb, hml, hown, hts, hlk, hrt, hT, hZ, hz, hex, hini, hst⟩ := C
  intro H locs ls K hl'
  obtain ⟨N, f, h1, h2, h3⟩ := hw
  obtain ⟨g1, g2, g3⟩ := K.1.arr h1
  refine W.last hx hb g3 ((hT.at g2).1 N (fun j => .long (f j))) (fun q => by cases q) (by show ¬ (i < 0 ∨ (arrV _ _ _).slots.size ≤ _); rw [arrV_size]; exact h2) rfl rfl d fun H1 e1 z1 o1 => ?_
  refine kk _ h3 H1 _ ls (K.put h1 (Or.inl ⟨1, _, rfl⟩) g1 z1 o1 (fun τ ht => ⟨ht, g1, g2, ?_⟩)) hl'
  show H1[a]? = some (vp_cell _ _)
  rw [e1, vp_cell_l, vp_cell_l, arrV_store]
  congr 2
  funext q
  by_cases hq : q = i.toNatClampNeg
  · subst hq
    simp [updV, vp_updL]
  · simp [updV, vp_updL, hq]
theorem cast_obj : ∀ k, k < 16 → ∃ C T N, clAll[k]? = some (C, T, N) ∧ Cond.castable C "java/lang/Object" ∈ nwL := by
  intro k hk
  match k, hk with
  | 0, _ => exact ⟨_, _, _, rfl, by decide +kernel⟩
  | 1, _ => exact ⟨_, _, _, rfl, by decide +kernel⟩
  | 2, _ => exact ⟨_, _, _, rfl, by decide +kernel⟩
  | 3, _ => exact ⟨_, _, _, rfl, by decide +kernel⟩
  | 4, _ => exact ⟨_, _, _, rfl, by decide +kernel⟩
  | 5, _ => exact ⟨_, _, _, rfl, by decide +kernel⟩
  | 6, _ => exact ⟨_, _, _, rfl, by decide +kernel⟩
  | 7, _ => exact ⟨_, _, _, rfl, by decide +kernel⟩
  | 8, _ => exact ⟨_, _, _, rfl, by decide +kernel⟩
  | 9, _ => exact ⟨_, _, _, rfl, by decide +kernel⟩
  | 10, _ => exact ⟨_, _, _, rfl, by decide +kernel⟩
  | 11, _ => exact ⟨_, _, _, rfl, by decide +kernel⟩
  | 12, _ => exact ⟨_, _, _, rfl, by decide +kernel⟩
  | 13, _ => exact ⟨_, _, _, rfl, by decide +kernel⟩
  | 14, _ => exact ⟨_, _, _, rfl, by decide +kernel⟩
  | 15, _ => exact ⟨_, _, _, rfl, by decide +kernel⟩
  | k + 16, hk => exact absurd hk (by omega)
theorem any_of {s : State} {H : Heap} {a : Nat} {C E : String} (hr : ∃ cell : Cell, H[a]? = some cell ∧ cell.vm.isStatics = false ∧ s.vm.findClass C = some cell.cls) (hasg : ∀ comp c0 : ClassId, s.vm.findClass E = some comp → s.vm.findClass C = some c0 → s.vm.assignable c0 comp = true) : va_Any E s H a := by
  obtain ⟨cell, h1, h2, h3⟩ := hr
  obtain ⟨kC, hkC, -⟩ := Vm.findClass_spec h3
  exact ⟨cell, h1, h2, ⟨kC, hkC⟩, fun comp h => hasg comp _ h h3⟩
theorem any_obj {s : State} {H : Heap} {a ci : Nat} (hR : HpR G h H) (hT : Tb G s) (hc : ci < 16) (ha : hasC h a ci) : va_Any "java/lang/Object" s H a := by
  obtain ⟨C, T, N, h1, h2⟩ := cast_obj ci hc
  exact any_of (hR.recv hT h1 ha) (vb_asgC (hT.2.1 _ h2))
theorem any_same {s : State} {H : Heap} {a ci : Nat} {q : vw_C} (hR : HpR G h H) (hT : Tb G s) (hc : clAll[ci]? = some q) (ha : hasC h a ci) : va_Any q.1 s H a := any_of (hR.recv hT hc ha) (fun comp c0 h1 h2 => vb_asgS comp c0 h1 h2)
theorem r_aastore (C : Cx G l V cc nL own fr lo mc ms Q X rt hh ini) {a t : Nat} {Cn : String} {i : Int32} {x : Option Nat} {K : Hp → Prop} (ht3 : t = 2 ∨ t = 3 ∨ t = 4) (hty : atys t = .object Cn) (d : decode cc pc = .ok (.aastore, 1)) (hw : wrR t h a i x K) (kk : ∀ h' : Hp, K h' → V h' cn n (pc + 1) L rest) : V h cn n pc L (va_rf x :: .int i :: .ref a :: rest) := by
  obtain ⟨p, e, s, m, args, below, meth, c, rfl, hx, hb, hml, hown, hts, hlk, hrt, hT, hZ, hz, hex, hini, hst⟩ := C
  intro H locs ls K hl'
  obtain ⟨N, f, h1, h2, k2, k3, k4, h3⟩ := hw
  obtain ⟨g1, g2, g3⟩ := K.1.arr h1
  have hat := hT.at g2
  rw [hty] at hat
  have hend : ∀ {H1 : Heap}, H1[a]? = some ((vp_cell (gA G t) (N, .inr (.inr (.inr (.inr f))))).setSlot i.toNatClampNeg (va_rf x)) → ∀ τ : Nat → Option Nat, τ a = some a → Rl G τ H1 a (aR t N (va_up f i.toNatClampNeg x)) := by
    intro H1 e1 τ ht
    refine ⟨ht, g1, g2, ?_⟩
    show H1[a]? = some (vp_cell _ _)
    rw [e1, vp_cell_q, vp_cell_q, arrV_store]
    congr 2
    funext q
    by_cases hq : q = i.toNatClampNeg
    · subst hq
      simp [updV, va_up]
    · simp [updV, va_up, hq]
  have h0 : ¬ i < 0 := fun q => h2 (Or.inl q)
  have hlt : i.toNatClampNeg < N := Nat.not_le.mp fun q => h2 (Or.inr q)
  cases x with
  | none =>
    refine va_WaastN (C := Cn) hx hb g3 (hat.1 N (fun j => va_rf (f j))) (fun q => by cases q) (by show ¬ (i < 0 ∨ (arrV _ _ _).slots.size ≤ _); rw [arrV_size]; exact h2) rfl rfl d fun H1 e1 z1 o1 => ?_
    exact kk _ h3 H1 _ ls (K.put h1 (Or.inl ⟨t, _, rfl⟩) g1 z1 o1 (hend e1)) hl'
  | some v =>
    have hr : va_Any Cn s H v := by
      rcases ht3 with rfl | rfl | rfl
      · cases hty
        obtain ⟨ci, hc1, hc2⟩ := k2 rfl v rfl
        exact any_obj K.1 hT hc1 hc2
      · cases hty
        exact any_same K.1 hT (q := (RJ30, TJ30, 3)) rfl (k3 rfl v rfl)
      · cases hty
        exact any_same K.1 hT (q := (RX2, TX2, 6)) rfl (k4 rfl v rfl)
    obtain ⟨cellV, q1, q3, ⟨kC, hkC⟩, hasg⟩ := hr
    obtain ⟨kA, comp, r1, r2, r3, -⟩ := hat.2
    obtain ⟨kE, hkE, -⟩ := Vm.findClass_spec r3
    refine W.aast hx hb g3 (fun q h => by cases h) (fun h => by cases h) r1 r2 rfl hkE ⟨h0, by show _ < (arrV _ _ _).slots.size; rw [arrV_size]; exact hlt⟩ q1 (fun q h => by rw [h] at q3; cases q3) hkC (hasg _ r3) rfl rfl d fun H1 e1 z1 o1 => ?_
    exact kk _ h3 H1 _ ls (K.put h1 (Or.inl ⟨t, _, rfl⟩) g1 z1 o1 (hend e1)) hl'
theorem r_alen (C : Cx G l V cc nL own fr lo mc ms Q X rt hh ini) {a : Nat} {K : Int32 → Prop} (d : decode cc pc = .ok (.arraylength, 1)) (hw : alen h a K) (kk : ∀ x : Int32, K x → V h cn n (pc + 1) L (.int x :: rest)) : V h cn n pc L (.ref a :: rest) := by
  obtain ⟨p, e, s, m, args, below, meth, c, rfl, hx, hb, hml, hown, hts, hlk, hrt, hT, hZ, hz, hex, hini, hst⟩ := C
  intro H locs ls K hl'
  obtain ⟨t, v, h1, h3⟩ := hw
  obtain ⟨g1, g2, g3⟩ := K.1.arr h1
  exact va_alen hx hb hT.1 (oneA_P g3) 0 t rfl (tysOf_at G g2) rfl d (kk _ h3 H locs ls K hl')
theorem nn_tc {z : Int32} (hz : ¬ z < 0) : z.toInt = (z.toNatClampNeg : Int) := by
  have hz0 : (0 : Int) ≤ z.toInt := by
    have := Int32.not_lt.mp hz
    simpa using Int32.le_iff_toInt_le.mp this
  show z.toInt = ((z.toInt.toNat : Nat) : Int)
  omega
theorem Wk.putL {s : State} {H H1 : Heap} {locs L9 : List Loc} {a : Nat} {e0 e1 : E2} (K : Wk G s h H locs) (ha : h a = some e0) (hp : (∃ t v, e0 = eA t v) ∨ ∃ ci fs, e0 = eO ci fs) (hle : G.1 ≤ a) (hz : H1.size = H.size) (hq : ∀ q : Nat, q ≠ a → H1[q]? = H[q]?) (h1 : ∀ τ : Nat → Option Nat, τ a = some a → Rl G τ H1 a e1) (hL : ∀ z ∈ L9, z.base = a) : Wk G s (hup h a e1) H1 (locs ++ L9) :=
  ⟨K.1.put ha hp hq hz h1, by rw [hz]; exact K.2.1, fun q g1 g2 => by
    rw [hq q (fun e => g2 (by rw [e]; exact hle))]
    exact K.2.2.1 q g1 g2, fun q hq => by
    rcases List.mem_append.mp hq with h | h
    · exact K.2.2.2 q h
    · rw [hL q h]; exact hle⟩

def SysW (own : String) (ix : Nat) : Prop := Cond.methodLink own ix arraycopyName ∈ lw_all ∧ Cond.native arraycopyName ∈ lw_all ∧ Cond.static arraycopyName ∈ lw_all ∧ Cond.initialized "java/lang/System" ∈ lw_all
theorem r_cpL (C : Cx G l V cc nL own fr lo mc ms Q X rt hh ini) {ix a0 a : Nat} {sp dp x : Int32} {K : Hp → Prop} (hS9 : SysW own ix) (hfr : 1 ≤ fr) (hlo : (rest.map fun v => v.category).sum + (nativeFrameWords "java/lang/System" "arraycopy" 5 + 11) ≤ lo) (d : decode cc pc = .ok (.invokestatic ix, 3)) (hw : cpL h a0 sp a dp x K) (kk : ∀ h' : Hp, K h' → V h' cn n (pc + 3) L rest) : V h cn n pc L (.int x :: .int dp :: .ref a :: .int sp :: .ref a0 :: rest) := by
  obtain ⟨p, e, s, m, args, below, meth, c, rfl, hx, hb, hml, hown, hts, hlk, hrt, hT, hZ, hz, hex, hini, hst⟩ := C
  intro H locs ls K hl'
  obtain ⟨n0, n1, f, g, ha0, ha1, h1, h2, h3, h4, h5, hk⟩ := hw
  obtain ⟨p1, p2, hc0⟩ := K.1.arr ha0
  obtain ⟨q1, q2, hc1⟩ := K.1.arr ha1
  intro T hTh X
  have hc0 : H[a0]? = some (vp_cell (gA G 1) (n0, .inr (.inl f))) := hc0
  have hc1 : H[a]? = some (vp_cell (gA G 1) (n1, .inr (.inl g))) := hc1
  obtain ⟨-, k0, hk0, cm0, hkk0⟩ := (hT.at p2).1 n0 (fun j => .long (f j))
  obtain ⟨-, k1, hk1, cm1, hkk1⟩ := (hT.at q2).1 n1 (fun j => .long (g j))
  obtain ⟨vm', X', step⟩ := X.arraycopy hx hown (hts _ hS9.1) (hts _ hS9.2.1) (hts _ hS9.2.2.1) (hts _ hS9.2.2.2) (src := a0) (dst := a) (cs := vp_cell (gA G 1) (n0, .inr (.inl f))) (cd := vp_cell (gA G 1) (n1, .inr (.inl g))) (srcPos := sp) (destPos := dp) (n := x) (by rw [hTh]; exact hc0) (by rw [hTh]; exact hc1)
    (fun _ h => by cases h) (fun _ h => by cases h) (fun h => by cases h) (fun h => by cases h) hk0 hk1 hkk0 hkk1 (by rfl) h1 h2 h3
    (by rw [nn_tc h1, nn_tc h3]; show ¬ _ > ((arrV _ n0 (fun j => .long (f j))).slots.size : Int); rw [arrV_size]; omega)
    (by rw [nn_tc h2, nn_tc h3]; show ¬ _ > ((arrV _ n1 (fun j => .long (g j))).slots.size : Int); rw [arrV_size]; omega)
    (fun vm₁ _ i hi => by
      have e9 : (vp_cell (gA G 1) (n0, .inr (.inl f))).slots.getD (sp.toNatClampNeg + i) .null = .long (f (sp.toNatClampNeg + i)) := by
        show (arrV _ n0 (fun j => .long (f j))).slots.getD _ _ = _
        rw [Array.getD_eq_getD_getElem?, arrV_read _ _ (by omega)]
        rfl
      refine ⟨?_, ?_⟩
      · rw [e9]
        rfl
      · rw [e9]
        exact trivial)
    (g := F0 m pc ls (.int x :: .int dp :: .ref a :: .int sp :: .ref a0 :: rest)) rfl (by rw [hl'.1, hml]) (rest := rest) rfl (by rw [hb]; exact d) hfr (by show 2 * 0 + _ + _ ≤ lo; omega)
  have e1 : copied (vp_cell (gA G 1) (n0, .inr (.inl f))) (vp_cell (gA G 1) (n1, .inr (.inl g))) sp dp x = vp_cell (gA G 1) (n1, .inr (.inl (va_cpy f g sp.toNatClampNeg dp.toNatClampNeg x.toNatClampNeg))) := va_copied (fun z => .long z) _ _ f g h4
  rw [e1] at X' step
  have hl : a < H.size := (Array.getElem?_eq_some_iff.mp hc1).1
  generalize hE : vp_cell (gA G 1) (n1, .inr (.inl (va_cpy f g sp.toNatClampNeg dp.toNatClampNeg x.toNatClampNeg))) = cE at X' step
  have hheap : ((T.setVm vm').setCell a cE).heap = H.setIfInBounds a cE := by rw [← hTh]; rfl
  have oq : ∀ q : Nat, q ≠ a → (H.setIfInBounds a cE)[q]? = H[q]? := fun q hq => by simp [Array.getElem?_setIfInBounds, Ne.symm hq]
  obtain ⟨t, a1, b1⟩ := kk _ hk (H.setIfInBounds a cE) _ ls (K.putL ha1 (Or.inl ⟨1, _, rfl⟩) q1 (by simp) oq (fun τ ht => ⟨ht, q1, q2, by
    show (H.setIfInBounds a cE)[a]? = some _
    rw [hE]
    simp [Array.getElem?_setIfInBounds, hl]⟩) (fun z hz9 => by
    obtain ⟨z9, -, hz8⟩ := List.mem_map.mp hz9
    rw [← hz8])) hl' _ hheap X'
  exact ⟨t, step t a1, b1⟩
theorem r_cpR (C : Cx G l V cc nL own fr lo mc ms Q X rt hh ini) {ix a0 a : Nat} {sp dp x : Int32} {K : Hp → Prop} (hS9 : SysW own ix) (hfr : 1 ≤ fr) (hlo : (rest.map fun v => v.category).sum + (nativeFrameWords "java/lang/System" "arraycopy" 5 + 11) ≤ lo) (d : decode cc pc = .ok (.invokestatic ix, 3)) (hw : cpR h a0 sp a dp x K) (kk : ∀ h' : Hp, K h' → V h' cn n (pc + 3) L rest) : V h cn n pc L (.int x :: .int dp :: .ref a :: .int sp :: .ref a0 :: rest) := by
  obtain ⟨p, e, s, m, args, below, meth, c, rfl, hx, hb, hml, hown, hts, hlk, hrt, hT, hZ, hz, hex, hini, hst⟩ := C
  intro H locs ls K hl'
  obtain ⟨n0, n1, f, g, ha0, ha1, h1, h2, h3, h4, h5, hel, hk⟩ := hw
  obtain ⟨p1, p2, hc0⟩ := K.1.arr ha0
  obtain ⟨q1, q2, hc1⟩ := K.1.arr ha1
  intro T hTh X
  have hc0 : H[a0]? = some (vp_cell (gA G 2) (n0, .inr (.inr (.inr (.inr f))))) := hc0
  have hc1 : H[a]? = some (vp_cell (gA G 2) (n1, .inr (.inr (.inr (.inr g))))) := hc1
  obtain ⟨-, k0, hk0, cm0, hkk0⟩ := (hT.at p2).1 n0 (fun j => va_rf (f j))
  obtain ⟨-, k1, hk1, cm1, hkk1⟩ := (hT.at q2).1 n1 (fun j => va_rf (g j))
  obtain ⟨vm', X', step⟩ := X.arraycopy hx hown (hts _ hS9.1) (hts _ hS9.2.1) (hts _ hS9.2.2.1) (hts _ hS9.2.2.2) (src := a0) (dst := a) (cs := vp_cell (gA G 2) (n0, .inr (.inr (.inr (.inr f))))) (cd := vp_cell (gA G 2) (n1, .inr (.inr (.inr (.inr g))))) (srcPos := sp) (destPos := dp) (n := x) (by rw [hTh]; exact hc0) (by rw [hTh]; exact hc1)
    (fun _ h => by cases h) (fun _ h => by cases h) (fun h => by cases h) (fun h => by cases h) hk0 hk1 hkk0 hkk1 rfl h1 h2 h3
    (by rw [nn_tc h1, nn_tc h3]; show ¬ _ > ((arrV _ n0 (fun j => va_rf (f j))).slots.size : Int); rw [arrV_size]; omega)
    (by rw [nn_tc h2, nn_tc h3]; show ¬ _ > ((arrV _ n1 (fun j => va_rf (g j))).slots.size : Int); rw [arrV_size]; omega)
    (fun vm₁ hal i hi => by
      have e9 : (vp_cell (gA G 2) (n0, .inr (.inr (.inr (.inr f))))).slots.getD (sp.toNatClampNeg + i) .null = va_rf (f (sp.toNatClampNeg + i)) := by
        show (arrV _ n0 (fun j => va_rf (f j))).slots.getD _ _ = _
        rw [Array.getD_eq_getD_getElem?, arrV_read _ _ (by omega)]
        rfl
      rw [e9]
      cases hy : f (sp.toNatClampNeg + i) with
      | none => exact ⟨rfl, trivial⟩
      | some y =>
        obtain ⟨ci, hci1, hci2⟩ := hel i hi y hy
        obtain ⟨cellV, g1, g2, ⟨kC, hkC⟩, hasg⟩ := any_obj K.1 hT hci1 hci2
        obtain ⟨kA, comp, r1, r2, r3, -⟩ := (hT.at q2).2
        cases hk1.symm.trans r1
        cases hkk1.symm.trans r2
        obtain ⟨kE, hkE, -⟩ := Vm.findClass_spec r3
        obtain ⟨kC', hkC', -⟩ := hal.2.2 _ _ hkC
        obtain ⟨kE', hkE', -⟩ := hal.2.2 _ _ hkE
        refine ⟨rfl, cellV, (show T.heap[y]? = some cellV by rw [hTh]; exact g1), (fun q h => by rw [h] at g2; cases g2), ⟨kC', hkC'⟩, ?_, ?_⟩
        · exact ⟨kE', hkE'⟩
        · show vm₁.assignable _ _ = true
          rw [hal.assignable]
          exact hasg _ r3)
    (g := F0 m pc ls (.int x :: .int dp :: .ref a :: .int sp :: .ref a0 :: rest)) rfl (by rw [hl'.1, hml]) (rest := rest) rfl (by rw [hb]; exact d) hfr (by show 2 * 0 + _ + _ ≤ lo; omega)
  have e1 : copied (vp_cell (gA G 2) (n0, .inr (.inr (.inr (.inr f))))) (vp_cell (gA G 2) (n1, .inr (.inr (.inr (.inr g))))) sp dp x = vp_cell (gA G 2) (n1, .inr (.inr (.inr (.inr (va_cpy f g sp.toNatClampNeg dp.toNatClampNeg x.toNatClampNeg))))) := by
    rw [vp_cell_q, vp_cell_q, vp_cell_q]
    exact va_copied (fun z => va_rf z) _ _ f g h4
  rw [e1] at X' step
  have hl : a < H.size := (Array.getElem?_eq_some_iff.mp hc1).1
  generalize hE : vp_cell (gA G 2) (n1, .inr (.inr (.inr (.inr (va_cpy f g sp.toNatClampNeg dp.toNatClampNeg x.toNatClampNeg))))) = cE at X' step
  have hheap : ((T.setVm vm').setCell a cE).heap = H.setIfInBounds a cE := by rw [← hTh]; rfl
  have oq : ∀ q : Nat, q ≠ a → (H.setIfInBounds a cE)[q]? = H[q]? := fun q hq => by simp [Array.getElem?_setIfInBounds, Ne.symm hq]
  obtain ⟨t, a1, b1⟩ := kk _ hk (H.setIfInBounds a cE) _ ls (K.putL ha1 (Or.inl ⟨2, _, rfl⟩) q1 (by simp) oq (fun τ ht => ⟨ht, q1, q2, by
    show (H.setIfInBounds a cE)[a]? = some _
    rw [hE]
    simp [Array.getElem?_setIfInBounds, hl]⟩) (fun z hz9 => by
    obtain ⟨z9, -, hz8⟩ := List.mem_map.mp hz9
    rw [← hz8])) hl' _ hheap X'
  exact ⟨t, step t a1, b1⟩
end
