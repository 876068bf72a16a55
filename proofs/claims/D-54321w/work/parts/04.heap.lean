set_option maxRecDepth 100000
/-! THE ABSTRACT HEAP: what stands at an address: an array (its kind, its contents), an object (its class's number, its fields), a JDK list as a whole (0 ArrayList, 1 LinkedList, 2 ArrayDeque: its values, its modCount; a boxed int stands as its int), a BitSet (its bits), an Integer -/
abbrev E2 : Type := (Nat × vp_A) ⊕ (Nat × List Value) ⊕ (Nat × List Value × Int32) ⊕ (Nat → Bool) ⊕ Int32
abbrev Hp : Type := Nat → Option E2
abbrev eA (t : Nat) (v : vp_A) : E2 := .inl (t, v)
abbrev eO (ci : Nat) (fs : List Value) : E2 := .inr (.inl (ci, fs))
abbrev eL (k : Nat) (xs : List Value) (md : Int32) : E2 := .inr (.inr (.inl (k, xs, md)))
abbrev eB (f : Nat → Bool) : E2 := .inr (.inr (.inr (.inl f)))
abbrev eN (v : Int32) : E2 := .inr (.inr (.inr (.inr v)))
def hup (h : Hp) (a : Nat) (e : E2) : Hp := fun q => if q = a then some e else h q
def bI (b : Bool) : Int32 := cond b 1 0
/-- arrays: 0 int[], 1 long[], 2 Object[], 3 BitSet[], 4 Collection[], 5 boolean[] -/
abbrev aI (n : Nat) (f : Nat → Int32) : E2 := eA 0 (n, .inl f)
abbrev aL (n : Nat) (f : Nat → Int64) : E2 := eA 1 (n, .inr (.inl f))
abbrev aR (t n : Nat) (f : Nat → Option Nat) : E2 := eA t (n, .inr (.inr (.inr (.inr f))))
abbrev aZ (n : Nat) (g : Nat → Bool) : E2 := eA 5 (n, .inl (fun j => bI (g j)))
/-! the steps on it -/
def gfI (h : Hp) (a ci k : Nat) (K : Int32 → Prop) : Prop := ∃ (fs : List Value) (x : Int32), h a = some (eO ci fs) ∧ fs[k]? = some (.int x) ∧ K x
def gfZ (h : Hp) (a ci k : Nat) (K : Bool → Prop) : Prop := ∃ (fs : List Value) (x : Bool), h a = some (eO ci fs) ∧ fs[k]? = some (.int (bI x)) ∧ K x
def gfR (h : Hp) (a ci k : Nat) (K : Option Nat → Prop) : Prop := ∃ (fs : List Value) (x : Option Nat), h a = some (eO ci fs) ∧ fs[k]? = some (va_rf x) ∧ K x
/-- a reference that isn't null -/
def nn (x : Option Nat) (K : Nat → Prop) : Prop := ∃ a : Nat, x = some a ∧ K a
def pf (h : Hp) (a ci k : Nat) (v : Value) (K : Hp → Prop) : Prop := ∃ fs : List Value, h a = some (eO ci fs) ∧ k < fs.length ∧ K (hup h a (eO ci (fs.set k v)))
def nwO (h : Hp) (ci : Nat) (fs : List Value) (K : Nat → Hp → Prop) : Prop := ∀ q : Nat, h q = none → K q (hup h q (eO ci fs))
def nwA (h : Hp) (t : Nat) (v : vp_A) (K : Nat → Hp → Prop) : Prop := ∀ q : Nat, h q = none → K q (hup h q (eA t v))
def rdI (h : Hp) (a : Nat) (i : Int32) (K : Int32 → Prop) : Prop := ∃ (n : Nat) (f : Nat → Int32), h a = some (aI n f) ∧ vp_in i n ∧ K (f i.toNatClampNeg)
def rdZ (h : Hp) (a : Nat) (i : Int32) (K : Bool → Prop) : Prop := ∃ (n : Nat) (g : Nat → Bool), h a = some (aZ n g) ∧ vp_in i n ∧ K (g i.toNatClampNeg)
def rdL (h : Hp) (a : Nat) (i : Int32) (K : Int64 → Prop) : Prop := ∃ (n : Nat) (f : Nat → Int64), h a = some (aL n f) ∧ vp_in i n ∧ K (f i.toNatClampNeg)
def rdR (t : Nat) (h : Hp) (a : Nat) (i : Int32) (K : Option Nat → Prop) : Prop := ∃ (n : Nat) (f : Nat → Option Nat), h a = some (aR t n f) ∧ vp_in i n ∧ K (f i.toNatClampNeg)
def wrI (h : Hp) (a : Nat) (i x : Int32) (K : Hp → Prop) : Prop := ∃ (n : Nat) (f : Nat → Int32), h a = some (aI n f) ∧ vp_in i n ∧ K (hup h a (aI n (upd f i.toNatClampNeg x)))
def wrZ (h : Hp) (a : Nat) (i : Int32) (x : Bool) (K : Hp → Prop) : Prop := ∃ (n : Nat) (g : Nat → Bool), h a = some (aZ n g) ∧ vp_in i n ∧ K (hup h a (aZ n (va_up g i.toNatClampNeg x)))
def wrL (h : Hp) (a : Nat) (i : Int32) (x : Int64) (K : Hp → Prop) : Prop := ∃ (n : Nat) (f : Nat → Int64), h a = some (aL n f) ∧ vp_in i n ∧ K (hup h a (aL n (vp_updL f i.toNatClampNeg x)))
/-- the object's class (a number of clAll) -/
def hasC (h : Hp) (a ci : Nat) : Prop := match h a with
  | some (.inr (.inl (c, _))) => c = ci
  | some (.inr (.inr (.inl (k, _)))) => ci = (if k = 0 then 8 else if k = 1 then 9 else 11)
  | some (.inr (.inr (.inr (.inl _)))) => ci = 15
  | some (.inr (.inr (.inr (.inr _)))) => ci = 12
  | _ => False
/-- a reference that may lie in a row: null or an object of a known class -/
def okR (h : Hp) (x : Option Nat) : Prop := ∀ a : Nat, x = some a → ∃ ci : Nat, ci < 16 ∧ hasC h a ci
def wrR (t : Nat) (h : Hp) (a : Nat) (i : Int32) (x : Option Nat) (K : Hp → Prop) : Prop := ∃ (n : Nat) (f : Nat → Option Nat), h a = some (aR t n f) ∧ vp_in i n ∧ (t = 2 → okR h x) ∧ (t = 3 → ∀ y : Nat, x = some y → hasC h y 15) ∧ (t = 4 → ∀ y : Nat, x = some y → hasC h y 1) ∧ K (hup h a (aR t n (va_up f i.toNatClampNeg x)))
def alen (h : Hp) (a : Nat) (K : Int32 → Prop) : Prop := ∃ (t : Nat) (v : vp_A), h a = some (eA t v) ∧ K (Int32.ofNat v.1)
/-- System.arraycopy of rows of references (kind 2), of longs -/
def cpR (h : Hp) (a0 : Nat) (sp : Int32) (a1 : Nat) (dp n : Int32) (K : Hp → Prop) : Prop := ∃ (n0 n1 : Nat) (f g : Nat → Option Nat), h a0 = some (aR 2 n0 f) ∧ h a1 = some (aR 2 n1 g) ∧ ¬ sp < 0 ∧ ¬ dp < 0 ∧ ¬ n < 0 ∧ sp.toNatClampNeg + n.toNatClampNeg ≤ n0 ∧ dp.toNatClampNeg + n.toNatClampNeg ≤ n1 ∧ (∀ i : Nat, i < n.toNatClampNeg → okR h (f (sp.toNatClampNeg + i))) ∧ K (hup h a1 (aR 2 n1 (va_cpy f g sp.toNatClampNeg dp.toNatClampNeg n.toNatClampNeg)))
def cpL (h : Hp) (a0 : Nat) (sp : Int32) (a1 : Nat) (dp n : Int32) (K : Hp → Prop) : Prop := ∃ (n0 n1 : Nat) (f g : Nat → Int64), h a0 = some (aL n0 f) ∧ h a1 = some (aL n1 g) ∧ ¬ sp < 0 ∧ ¬ dp < 0 ∧ ¬ n < 0 ∧ sp.toNatClampNeg + n.toNatClampNeg ≤ n0 ∧ dp.toNatClampNeg + n.toNatClampNeg ≤ n1 ∧ K (hup h a1 (aL n1 (va_cpy f g sp.toNatClampNeg dp.toNatClampNeg n.toNatClampNeg)))
/-! reading them off -/
theorem bI_inj {a b : Bool} (h : bI a = bI b) : a = b := by cases a <;> cases b <;> simp_all [bI]
theorem bI_0 (a : Bool) : bI a = 0 ↔ a = false := by cases a <;> simp [bI]
theorem va_rf_cat (r : Option Nat) : (va_rf r).category = 1 := by cases r <;> rfl
theorem va_rf_inj {x y : Option Nat} (h : va_rf x = va_rf y) : x = y := by cases x <;> cases y <;> simp_all [va_rf]
theorem hup_s (h : Hp) (a : Nat) (e : E2) : hup h a e a = some e := if_pos rfl
theorem hup_n (h : Hp) {a q : Nat} (e : E2) (hq : q ≠ a) : hup h a e q = h q := if_neg hq
theorem gfI_i {h : Hp} {a ci k : Nat} {fs : List Value} {x : Int32} {K : Int32 → Prop} (ha : h a = some (eO ci fs)) (hk : fs[k]? = some (.int x)) : gfI h a ci k K ↔ K x := by
  constructor
  · rintro ⟨fs', x', h1, h2, h3⟩
    rw [ha] at h1
    cases h1
    rw [hk] at h2
    cases h2
    exact h3
  · exact fun h3 => ⟨fs, x, ha, hk, h3⟩
theorem gfZ_i {h : Hp} {a ci k : Nat} {fs : List Value} {x : Bool} {K : Bool → Prop} (ha : h a = some (eO ci fs)) (hk : fs[k]? = some (.int (bI x))) : gfZ h a ci k K ↔ K x := by
  constructor
  · rintro ⟨fs', x', h1, h2, h3⟩
    rw [ha] at h1
    cases h1
    rw [hk] at h2
    have := bI_inj (Value.int.inj (Option.some.inj h2))
    rw [this]
    exact h3
  · exact fun h3 => ⟨fs, x, ha, hk, h3⟩
theorem gfR_i {h : Hp} {a ci k : Nat} {fs : List Value} {x : Option Nat} {K : Option Nat → Prop} (ha : h a = some (eO ci fs)) (hk : fs[k]? = some (va_rf x)) : gfR h a ci k K ↔ K x := by
  constructor
  · rintro ⟨fs', x', h1, h2, h3⟩
    rw [ha] at h1
    cases h1
    rw [hk] at h2
    have := va_rf_inj (Option.some.inj h2)
    rw [this]
    exact h3
  · exact fun h3 => ⟨fs, x, ha, hk, h3⟩
theorem nn_s {a : Nat} {K : Nat → Prop} : nn (some a) K ↔ K a := ⟨fun ⟨_, h1, h2⟩ => by cases h1; exact h2, fun h => ⟨a, rfl, h⟩⟩
theorem pf_i {h : Hp} {a ci k : Nat} {fs : List Value} {v : Value} {K : Hp → Prop} (ha : h a = some (eO ci fs)) (hk : k < fs.length) : pf h a ci k v K ↔ K (hup h a (eO ci (fs.set k v))) := by
  constructor
  · rintro ⟨fs', h1, h2, h3⟩
    rw [ha] at h1
    cases h1
    exact h3
  · exact fun h3 => ⟨fs, ha, hk, h3⟩
theorem aI_inj {n n' : Nat} {f f' : Nat → Int32} (h : (some (aI n f) : Option E2) = some (aI n' f')) : n = n' ∧ f = f' := by
  have h1 := Sum.inl.inj (Option.some.inj h)
  simp only [Prod.mk.injEq, true_and, Sum.inl.injEq] at h1
  exact h1
theorem rdI_i {h : Hp} {a n : Nat} {f : Nat → Int32} {i : Int32} {K : Int32 → Prop} (ha : h a = some (aI n f)) : rdI h a i K ↔ vp_in i n ∧ K (f i.toNatClampNeg) := by
  constructor
  · rintro ⟨n', f', h1, h2⟩
    obtain ⟨rfl, rfl⟩ := aI_inj (ha.symm.trans h1)
    exact h2
  · exact fun h3 => ⟨n, f, ha, h3⟩
theorem wrI_i {h : Hp} {a n : Nat} {f : Nat → Int32} {i x : Int32} {K : Hp → Prop} (ha : h a = some (aI n f)) : wrI h a i x K ↔ vp_in i n ∧ K (hup h a (aI n (upd f i.toNatClampNeg x))) := by
  constructor
  · rintro ⟨n', f', h1, h2⟩
    obtain ⟨rfl, rfl⟩ := aI_inj (ha.symm.trans h1)
    exact h2
  · exact fun h3 => ⟨n, f, ha, h3⟩
theorem aZ_inj {n n' : Nat} {f f' : Nat → Bool} (h : (some (aZ n f) : Option E2) = some (aZ n' f')) : n = n' ∧ f = f' := by
  have h1 := Sum.inl.inj (Option.some.inj h)
  simp only [Prod.mk.injEq, true_and, Sum.inl.injEq] at h1
  refine ⟨h1.1, funext fun j => bI_inj (congrFun h1.2 j)⟩
theorem rdZ_i {h : Hp} {a n : Nat} {f : Nat → Bool} {i : Int32} {K : Bool → Prop} (ha : h a = some (aZ n f)) : rdZ h a i K ↔ vp_in i n ∧ K (f i.toNatClampNeg) := by
  constructor
  · rintro ⟨n', f', h1, h2⟩
    obtain ⟨rfl, rfl⟩ := aZ_inj (ha.symm.trans h1)
    exact h2
  · exact fun h3 => ⟨n, f, ha, h3⟩
theorem wrZ_i {h : Hp} {a n : Nat} {f : Nat → Bool} {i : Int32} {x : Bool} {K : Hp → Prop} (ha : h a = some (aZ n f)) : wrZ h a i x K ↔ vp_in i n ∧ K (hup h a (aZ n (va_up f i.toNatClampNeg x))) := by
  constructor
  · rintro ⟨n', f', h1, h2⟩
    obtain ⟨rfl, rfl⟩ := aZ_inj (ha.symm.trans h1)
    exact h2
  · exact fun h3 => ⟨n, f, ha, h3⟩
theorem aL_inj {n n' : Nat} {f f' : Nat → Int64} (h : (some (aL n f) : Option E2) = some (aL n' f')) : n = n' ∧ f = f' := by
  have h1 := Sum.inl.inj (Option.some.inj h)
  simp only [Prod.mk.injEq, true_and, Sum.inl.injEq, Sum.inr.injEq] at h1
  exact h1
theorem rdL_i {h : Hp} {a n : Nat} {f : Nat → Int64} {i : Int32} {K : Int64 → Prop} (ha : h a = some (aL n f)) : rdL h a i K ↔ vp_in i n ∧ K (f i.toNatClampNeg) := by
  constructor
  · rintro ⟨n', f', h1, h2⟩
    obtain ⟨rfl, rfl⟩ := aL_inj (ha.symm.trans h1)
    exact h2
  · exact fun h3 => ⟨n, f, ha, h3⟩
theorem wrL_i {h : Hp} {a n : Nat} {f : Nat → Int64} {i : Int32} {x : Int64} {K : Hp → Prop} (ha : h a = some (aL n f)) : wrL h a i x K ↔ vp_in i n ∧ K (hup h a (aL n (vp_updL f i.toNatClampNeg x))) := by
  constructor
  · rintro ⟨n', f', h1, h2⟩
    obtain ⟨rfl, rfl⟩ := aL_inj (ha.symm.trans h1)
    exact h2
  · exact fun h3 => ⟨n, f, ha, h3⟩
theorem aR_inj {t n n' : Nat} {f f' : Nat → Option Nat} (h : (some (aR t n f) : Option E2) = some (aR t n' f')) : n = n' ∧ f = f' := by
  have h1 := Sum.inl.inj (Option.some.inj h)
  simp only [Prod.mk.injEq, true_and, Sum.inr.injEq] at h1
  exact h1
theorem rdR_i {h : Hp} {t a n : Nat} {f : Nat → Option Nat} {i : Int32} {K : Option Nat → Prop} (ha : h a = some (aR t n f)) : rdR t h a i K ↔ vp_in i n ∧ K (f i.toNatClampNeg) := by
  constructor
  · rintro ⟨n', f', h1, h2⟩
    obtain ⟨rfl, rfl⟩ := aR_inj (ha.symm.trans h1)
    exact h2
  · exact fun h3 => ⟨n, f, ha, h3⟩
theorem alen_i {h : Hp} {a t : Nat} {v : vp_A} {K : Int32 → Prop} (ha : h a = some (eA t v)) : alen h a K ↔ K (Int32.ofNat v.1) := by
  constructor
  · rintro ⟨t', v', h1, h2⟩
    rw [ha] at h1
    cases h1
    exact h2
  · exact fun h3 => ⟨t, v, ha, h3⟩
