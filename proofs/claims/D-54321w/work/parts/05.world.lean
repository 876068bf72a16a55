set_option maxRecDepth 100000
/-! THE WORLD: what the tables say (Tb), what nobody writes (St), what the abstract heap says of the machine's (HpR) -/
abbrev clAll : List vw_C := [(RX1, TX1, 7), (RX2, TX2, 6), (RX3, TX3, 18), (RX4, TX4, 2), (RX5, TX5, 4), (RX6, TX6, 6), (RX7, TX7, 3), (RX8, TX8, 3), (RJ2, TJ2, 3), (RJ4, TJ4, 4), (RJ8, TJ8, 3), (RJ9, TJ9, 3), (RJ24, TJ24, 1), (RJ25, TJ25, 4), (RJ28, TJ28, 5), (RJ30, TJ30, 3)]
def nwL : List Cond := [(Jvm.Cond.fieldLinkNest "java/util/ArrayList$Itr" (28 : Nat) "java/util/ArrayList" "size" "I" "java/util/ArrayList"), (Jvm.Cond.castable "java/util/ArrayList" "java/util/List"), (Jvm.Cond.castable "java/util/LinkedList" "java/util/List"), (Jvm.Cond.fieldLinkNest "CordSeals" (216 : Nat) "CordSeals$Collection" "reigns" "Ljava/util/List;" "CordSeals"), (Jvm.Cond.fieldLinkNest "CordSeals" (132 : Nat) "CordSeals$Collection" "dies" "Ljava/util/List;" "CordSeals"), (Jvm.Cond.fieldLinkNest "CordSeals" (162 : Nat) "CordSeals$Collection" "seals" "Ljava/util/List;" "CordSeals"), (Jvm.Cond.fieldLinkNest "CordSeals$Collection$Walk" (13 : Nat) "CordSeals$Collection" "shelves" "Ljava/util/List;" "CordSeals"), (Jvm.Cond.fieldLinkNest "CordSeals" (281 : Nat) "CordSeals$Collection" "shelves" "Ljava/util/List;" "CordSeals"), (Jvm.Cond.fieldLinkNest "CordSeals" (375 : Nat) "CordSeals$Collection" "settings" "[I" "CordSeals"), (Jvm.Cond.castable "java/lang/IndexOutOfBoundsException" "java/lang/IndexOutOfBoundsException"), (Jvm.Cond.castable "[B" "java/lang/Cloneable"), (Jvm.Cond.castable "java/lang/IllegalArgumentException" "java/lang/IllegalArgumentException"), (Jvm.Cond.fieldLinkNest "CordSeals$Collection" (105 : Nat) "CordSeals$Reign" "year" "I" "CordSeals"), (Jvm.Cond.fieldLinkNest "CordSeals" (241 : Nat) "CordSeals$Reign" "year" "I" "CordSeals"), (Jvm.Cond.fieldLinkNest "CordSeals$Collection" (108 : Nat) "CordSeals$Reign" "colours" "I" "CordSeals"), (Jvm.Cond.fieldLinkNest "CordSeals" (247 : Nat) "CordSeals$Reign" "colours" "I" "CordSeals"), (Jvm.Cond.fieldLinkNest "CordSeals$Collection" (102 : Nat) "CordSeals$Die" "house" "I" "CordSeals"), (Jvm.Cond.fieldLinkNest "CordSeals" (250 : Nat) "CordSeals$Die" "house" "I" "CordSeals"), (Jvm.Cond.fieldLinkNest "CordSeals$Collection$1" (23 : Nat) "CordSeals$Die" "from" "I" "CordSeals"), (Jvm.Cond.fieldLinkNest "CordSeals" (253 : Nat) "CordSeals$Die" "from" "I" "CordSeals"), (Jvm.Cond.fieldLinkNest "CordSeals$Collection$1" (29 : Nat) "CordSeals$Die" "to" "I" "CordSeals"), (Jvm.Cond.fieldLinkNest "CordSeals" (256 : Nat) "CordSeals$Die" "to" "I" "CordSeals"), (Jvm.Cond.fieldLinkNest "CordSeals$Collection$1" (47 : Nat) "CordSeals$Die" "cracks" "Ljava/util/List;" "CordSeals"), (Jvm.Cond.fieldLinkNest "CordSeals$Collection" (232 : Nat) "CordSeals$Die" "cracks" "Ljava/util/List;" "CordSeals"), (Jvm.Cond.fieldLinkNest "CordSeals" (259 : Nat) "CordSeals$Die" "cracks" "Ljava/util/List;" "CordSeals"), (Jvm.Cond.methodLinkNest "CordSeals$Collection" (94 : Nat) ({ cls := "CordSeals", name := "isIn", desc := "(JJJ)Z" } : Jvm.MethodName) "CordSeals"), (Jvm.Cond.methodLinkNest "CordSeals$Die" (67 : Nat) ({ cls := "CordSeals", name := "isIn", desc := "(JJJ)Z" } : Jvm.MethodName) "CordSeals"), (Jvm.Cond.fieldLinkNest "CordSeals$Collection" (98 : Nat) "CordSeals$Seal" "die" "I" "CordSeals"), (Jvm.Cond.fieldLinkNest "CordSeals" (262 : Nat) "CordSeals$Seal" "die" "I" "CordSeals"), (Jvm.Cond.fieldLinkNest "CordSeals$Collection" (133 : Nat) "CordSeals$Seal" "material" "I" "CordSeals"), (Jvm.Cond.fieldLinkNest "CordSeals" (270 : Nat) "CordSeals$Seal" "material" "I" "CordSeals"), (Jvm.Cond.fieldLinkNest "CordSeals$Collection$1" (36 : Nat) "CordSeals$Seal" "colour" "I" "CordSeals"), (Jvm.Cond.fieldLinkNest "CordSeals$Collection" (136 : Nat) "CordSeals$Seal" "colour" "I" "CordSeals"), (Jvm.Cond.fieldLinkNest "CordSeals" (273 : Nat) "CordSeals$Seal" "colour" "I" "CordSeals"), (Jvm.Cond.fieldLinkNest "CordSeals$Collection" (130 : Nat) "CordSeals$Seal" "bubbles" "I" "CordSeals"), (Jvm.Cond.fieldLinkNest "CordSeals" (276 : Nat) "CordSeals$Seal" "bubbles" "I" "CordSeals"), (Jvm.Cond.fieldLinkNest "CordSeals$Collection$1" (57 : Nat) "CordSeals$Seal" "cracks" "I" "CordSeals"), (Jvm.Cond.fieldLinkNest "CordSeals$Collection" (244 : Nat) "CordSeals$Seal" "cracks" "I" "CordSeals"), (Jvm.Cond.fieldLinkNest "CordSeals" (279 : Nat) "CordSeals$Seal" "cracks" "I" "CordSeals"), (Jvm.Cond.fieldLinkNest "CordSeals$Collection" (152 : Nat) "CordSeals$Seal" "charter" "I" "CordSeals"), (Jvm.Cond.fieldLinkNest "CordSeals" (208 : Nat) "CordSeals$Seal" "charter" "I" "CordSeals"), (Jvm.Cond.castable "CordSeals$Collection$Walk" "java/util/Iterator"), (Jvm.Cond.castable "java/util/AbstractList$ListItr" "java/util/Iterator"), (Jvm.Cond.castable "java/util/ArrayList$Itr" "java/util/Iterator"), (Jvm.Cond.castable "java/util/ArrayList$ListItr" "java/util/Iterator"), (Jvm.Cond.castable "java/util/LinkedList$ListItr" "java/util/Iterator"), (Jvm.Cond.castable "java/util/NoSuchElementException" "java/util/NoSuchElementException"), (Jvm.Cond.castable "java/lang/IllegalStateException" "java/lang/IllegalStateException"), (Jvm.Cond.methodLinkNest "CordSeals$Collection" (116 : Nat) ({ cls := "CordSeals", name := "years", desc := "(LCordSeals$Rule;)Ljava/util/BitSet;" } : Jvm.MethodName) "CordSeals"), (Jvm.Cond.castable "CordSeals$Collection$1" "CordSeals$Rule"), (Jvm.Cond.methodLinkNest "CordSeals$Collection$1" (32 : Nat) ({ cls := "CordSeals", name := "isIn", desc := "(JJJ)Z" } : Jvm.MethodName) "CordSeals"), (Jvm.Cond.methodLinkNest "CordSeals$Collection$1" (41 : Nat) ({ cls := "CordSeals$Collection", name := "used", desc := "(II)Z" } : Jvm.MethodName) "CordSeals"), (Jvm.Cond.castable "[J" "java/lang/Cloneable"), (Jvm.Cond.methodLinkNest "CordSeals$Collection" (180 : Nat) ({ cls := "CordSeals", name := "first", desc := "(Ljava/util/BitSet;)I" } : Jvm.MethodName) "CordSeals"), (Jvm.Cond.castable "java/lang/ArrayIndexOutOfBoundsException" "java/lang/ArrayIndexOutOfBoundsException"), (Jvm.Cond.castable "[I" "java/lang/Cloneable"), (Jvm.Cond.fieldLinkNest "CordSeals$Collection" (205 : Nat) "CordSeals$Collection$Walk" "taken" "I" "CordSeals"), (Jvm.Cond.castable "java/util/ConcurrentModificationException" "java/util/ConcurrentModificationException"), (Jvm.Cond.castable "java/lang/ArrayIndexOutOfBoundsException" "java/lang/IndexOutOfBoundsException"), (Jvm.Cond.castable "CordSeals$Collection" "java/lang/Object"), (Jvm.Cond.castable "java/util/BitSet" "java/lang/Object"), (Jvm.Cond.castable "CordSeals" "java/lang/Object"), (Jvm.Cond.castable "java/util/ArrayList" "java/lang/Object"), (Jvm.Cond.castable "java/util/LinkedList" "java/lang/Object"), (Jvm.Cond.castable "java/util/LinkedList$Node" "java/lang/Object"), (Jvm.Cond.castable "java/util/ArrayDeque" "java/lang/Object"), (Jvm.Cond.castable "CordSealsModel" "java/lang/Object"), (Jvm.Cond.castable "java/lang/IllegalArgumentException" "java/lang/Object"), (Jvm.Cond.castable "java/lang/IllegalStateException" "java/lang/Object"), (Jvm.Cond.castable "java/lang/IndexOutOfBoundsException" "java/lang/Object"), (Jvm.Cond.castable "java/lang/StringBuilder" "java/lang/Object"), (Jvm.Cond.castable "java/lang/String" "java/lang/Object"), (Jvm.Cond.castable "CordSeals$Reign" "java/lang/Object"), (Jvm.Cond.castable "CordSeals$Die" "java/lang/Object"), (Jvm.Cond.castable "java/lang/Integer" "java/lang/Object"), (Jvm.Cond.castable "CordSeals$Seal" "java/lang/Object"), (Jvm.Cond.castable "java/util/ArrayList$Itr" "java/lang/Object"), (Jvm.Cond.castable "java/util/AbstractList$ListItr" "java/lang/Object"), (Jvm.Cond.castable "java/util/ArrayList$ListItr" "java/lang/Object"), (Jvm.Cond.castable "java/util/LinkedList$ListItr" "java/lang/Object"), (Jvm.Cond.castable "java/util/NoSuchElementException" "java/lang/Object"), (Jvm.Cond.castable "CordSeals$Collection$1" "java/lang/Object"), (Jvm.Cond.castable "java/lang/ArrayIndexOutOfBoundsException" "java/lang/Object"), (Jvm.Cond.castable "CordSeals$Collection$Walk" "java/lang/Object"), (Jvm.Cond.castable "java/util/ConcurrentModificationException" "java/lang/Object"), (Jvm.Cond.castable "java/lang/Throwable" "java/lang/Object"), (Jvm.Cond.castable "[I" "java/lang/Object"), (Jvm.Cond.castable "[Ljava/lang/Object;" "java/lang/Object"), (Jvm.Cond.castable "[LCordSeals$Collection;" "java/lang/Object"), (Jvm.Cond.castable "[B" "java/lang/Object"), (Jvm.Cond.castable "[Z" "java/lang/Object"), (Jvm.Cond.castable "[J" "java/lang/Object"), (Jvm.Cond.castable "[Ljava/util/BitSet;" "java/lang/Object")]
def dcL : List MethodName := [⟨"java/util/AbstractCollection", "size", "()I"⟩, ⟨"java/lang/RuntimeException", "<init>", "()V"⟩, ⟨"java/lang/RuntimeException", "<init>", "(Ljava/lang/String;)V"⟩, ⟨"java/lang/Exception", "<init>", "()V"⟩, ⟨"java/lang/Exception", "<init>", "(Ljava/lang/String;)V"⟩, ⟨"java/lang/Throwable", "<init>", "()V"⟩, ⟨"java/lang/Throwable", "<init>", "(Ljava/lang/String;)V"⟩, ⟨"java/lang/Object", "equals", "(Ljava/lang/Object;)Z"⟩, ⟨"java/util/AbstractList", "listIterator", "()Ljava/util/ListIterator;"⟩, ⟨"java/util/AbstractList", "listIterator", "(I)Ljava/util/ListIterator;"⟩, ⟨"java/util/AbstractList", "get", "(I)Ljava/lang/Object;"⟩, ⟨"java/util/AbstractSequentialList", "iterator", "()Ljava/util/Iterator;"⟩, ⟨"java/lang/IndexOutOfBoundsException", "<init>", "()V"⟩, ⟨"java/lang/IndexOutOfBoundsException", "<init>", "(Ljava/lang/String;)V"⟩, ⟨"java/util/AbstractList", "remove", "(I)Ljava/lang/Object;"⟩, ⟨"java/lang/Object", "getClass", "()Ljava/lang/Class;"⟩]
def fwL : List (String × MethodName × MethodName) := [("java/util/ArrayList", ⟨"java/util/List", "add", "(Ljava/lang/Object;)Z"⟩, ⟨"java/util/ArrayList", "add", "(Ljava/lang/Object;)Z"⟩), ("java/util/LinkedList", ⟨"java/util/List", "add", "(Ljava/lang/Object;)Z"⟩, ⟨"java/util/LinkedList", "add", "(Ljava/lang/Object;)Z"⟩), ("java/util/ArrayList", ⟨"java/util/List", "size", "()I"⟩, ⟨"java/util/ArrayList", "size", "()I"⟩), ("java/util/LinkedList", ⟨"java/util/List", "size", "()I"⟩, ⟨"java/util/LinkedList", "size", "()I"⟩), ("java/util/ArrayList", ⟨"java/util/List", "isEmpty", "()Z"⟩, ⟨"java/util/ArrayList", "isEmpty", "()Z"⟩), ("java/util/LinkedList", ⟨"java/util/List", "isEmpty", "()Z"⟩, ⟨"java/util/AbstractCollection", "isEmpty", "()Z"⟩), ("java/util/ArrayList", ⟨"java/util/List", "get", "(I)Ljava/lang/Object;"⟩, ⟨"java/util/ArrayList", "get", "(I)Ljava/lang/Object;"⟩), ("java/util/LinkedList", ⟨"java/util/List", "get", "(I)Ljava/lang/Object;"⟩, ⟨"java/util/LinkedList", "get", "(I)Ljava/lang/Object;"⟩), ("java/util/ArrayList", ⟨"java/util/List", "contains", "(Ljava/lang/Object;)Z"⟩, ⟨"java/util/ArrayList", "contains", "(Ljava/lang/Object;)Z"⟩), ("java/util/LinkedList", ⟨"java/util/List", "contains", "(Ljava/lang/Object;)Z"⟩, ⟨"java/util/LinkedList", "contains", "(Ljava/lang/Object;)Z"⟩), ("java/util/ArrayList", ⟨"java/util/List", "iterator", "()Ljava/util/Iterator;"⟩, ⟨"java/util/ArrayList", "iterator", "()Ljava/util/Iterator;"⟩), ("java/util/LinkedList", ⟨"java/util/List", "iterator", "()Ljava/util/Iterator;"⟩, ⟨"java/util/AbstractSequentialList", "iterator", "()Ljava/util/Iterator;"⟩), ("CordSeals$Collection$Walk", ⟨"java/util/Iterator", "hasNext", "()Z"⟩, ⟨"CordSeals$Collection$Walk", "hasNext", "()Z"⟩), ("java/util/AbstractList$ListItr", ⟨"java/util/Iterator", "hasNext", "()Z"⟩, ⟨"java/util/AbstractList$Itr", "hasNext", "()Z"⟩), ("java/util/ArrayList$Itr", ⟨"java/util/Iterator", "hasNext", "()Z"⟩, ⟨"java/util/ArrayList$Itr", "hasNext", "()Z"⟩), ("java/util/ArrayList$ListItr", ⟨"java/util/Iterator", "hasNext", "()Z"⟩, ⟨"java/util/ArrayList$Itr", "hasNext", "()Z"⟩), ("java/util/LinkedList$ListItr", ⟨"java/util/Iterator", "hasNext", "()Z"⟩, ⟨"java/util/LinkedList$ListItr", "hasNext", "()Z"⟩), ("CordSeals$Collection$Walk", ⟨"java/util/Iterator", "next", "()Ljava/lang/Object;"⟩, ⟨"CordSeals$Collection$Walk", "next", "()Ljava/lang/Object;"⟩), ("java/util/AbstractList$ListItr", ⟨"java/util/Iterator", "next", "()Ljava/lang/Object;"⟩, ⟨"java/util/AbstractList$Itr", "next", "()Ljava/lang/Object;"⟩), ("java/util/ArrayList$Itr", ⟨"java/util/Iterator", "next", "()Ljava/lang/Object;"⟩, ⟨"java/util/ArrayList$Itr", "next", "()Ljava/lang/Object;"⟩), ("java/util/ArrayList$ListItr", ⟨"java/util/Iterator", "next", "()Ljava/lang/Object;"⟩, ⟨"java/util/ArrayList$Itr", "next", "()Ljava/lang/Object;"⟩), ("java/util/LinkedList$ListItr", ⟨"java/util/Iterator", "next", "()Ljava/lang/Object;"⟩, ⟨"java/util/LinkedList$ListItr", "next", "()Ljava/lang/Object;"⟩), ("CordSeals$Collection$1", ⟨"CordSeals$Rule", "allows", "(I)Z"⟩, ⟨"CordSeals$Collection$1", "allows", "(I)Z"⟩), ("CordSeals$Collection$Walk", ⟨"java/util/Iterator", "remove", "()V"⟩, ⟨"CordSeals$Collection$Walk", "remove", "()V"⟩), ("java/util/AbstractList$ListItr", ⟨"java/util/Iterator", "remove", "()V"⟩, ⟨"java/util/AbstractList$Itr", "remove", "()V"⟩), ("java/util/ArrayList$Itr", ⟨"java/util/Iterator", "remove", "()V"⟩, ⟨"java/util/ArrayList$Itr", "remove", "()V"⟩), ("java/util/ArrayList$ListItr", ⟨"java/util/Iterator", "remove", "()V"⟩, ⟨"java/util/ArrayList$Itr", "remove", "()V"⟩), ("java/util/LinkedList$ListItr", ⟨"java/util/Iterator", "remove", "()V"⟩, ⟨"java/util/LinkedList$ListItr", "remove", "()V"⟩), ("java/util/ArrayList", ⟨"java/util/List", "set", "(ILjava/lang/Object;)Ljava/lang/Object;"⟩, ⟨"java/util/ArrayList", "set", "(ILjava/lang/Object;)Ljava/lang/Object;"⟩), ("java/util/LinkedList", ⟨"java/util/List", "set", "(ILjava/lang/Object;)Ljava/lang/Object;"⟩, ⟨"java/util/LinkedList", "set", "(ILjava/lang/Object;)Ljava/lang/Object;"⟩)]
def aoL : List String := ["java/lang/Object", "CordSeals$Collection", "java/util/BitSet"]
def ncL : List (String × String) := [("java/lang/IllegalArgumentException", "java/lang/IllegalStateException"), ("java/lang/IllegalArgumentException", "java/lang/IndexOutOfBoundsException"), ("java/lang/IllegalStateException", "java/lang/IllegalArgumentException"), ("java/lang/IllegalStateException", "java/lang/IndexOutOfBoundsException"), ("java/lang/IndexOutOfBoundsException", "java/lang/IllegalArgumentException"), ("java/lang/IndexOutOfBoundsException", "java/lang/IllegalStateException")]

/-- sz0 | classes' numbers and slots | array classes by kind | the cached Integers | the empty array of ArrayList | the Class object of Object[] | the Integer cache's array | the law's script: its address, length, ints -/
abbrev gT : Type := Nat × va_G × (Nat → ClassId) × (Nat → Nat) × Nat × Nat × Nat × Nat × Nat × (Nat → Int32)
abbrev gD (G : gT) : va_G := G.2.1
abbrev gA (G : gT) : Nat → ClassId := G.2.2.1
abbrev gAd (G : gT) : Nat → Nat := G.2.2.2.1
abbrev gE0 (G : gT) : Nat := G.2.2.2.2.1
abbrev gMi (G : gT) : Nat := G.2.2.2.2.2.1
abbrev gCa (G : gT) : Nat := G.2.2.2.2.2.2.1
abbrev gSb (G : gT) : Nat := G.2.2.2.2.2.2.2.1
abbrev gSn (G : gT) : Nat := G.2.2.2.2.2.2.2.2.1
abbrev gSx (G : gT) : Nat → Int32 := G.2.2.2.2.2.2.2.2.2
def aA (G : gT) : Nat → Prop := fun q => G.1 ≤ q
def atys : Nat → FieldType := fun t => match t with
  | 0 => .int
  | 1 => .long
  | 2 => .object "java/lang/Object"
  | 3 => .object "java/util/BitSet"
  | 4 => .object "CordSeals$Collection"
  | _ => .boolean
def tysOf (G : gT) : List (ClassId × FieldType) := [(gA G 0, .int), (gA G 1, .long), (gA G 2, .object "java/lang/Object"), (gA G 3, .object "java/util/BitSet"), (gA G 4, .object "CordSeals$Collection"), (gA G 5, .boolean)]
theorem tysOf_at (G : gT) {t : Nat} (ht : t < 6) : (tysOf G)[t]? = some (gA G t, atys t) := by
  match t, ht with
  | 0, _ => rfl
  | 1, _ => rfl
  | 2, _ => rfl
  | 3, _ => rfl
  | 4, _ => rfl
  | 5, _ => rfl
def Tb (G : gT) (U : State) : Prop := va_K (gD G) clAll (tysOf G) U ∧ (∀ w ∈ nwL, va_Nw w U) ∧ (∀ t ∈ fwL, va_Fw t.1 t.2.1 t.2.2 U) ∧ (∀ C ∈ aoL, va_AO C U) ∧ (∀ t ∈ ncL, va_Nc t.1 t.2 U) ∧ (∀ x ∈ dcL, va_Nw (.declares x) U) ∧ va_Mi "[Ljava/lang/Object;" (gMi G) U
def nwOK : Cond → Bool := fun w => match w with
  | .fieldLinkNest .. => true
  | .methodLinkNest .. => true
  | .castable .. => true
  | _ => false
theorem nwL_ok : nwL.all nwOK = true := by decide +kernel
theorem nw_moved {w : Cond} (hw : nwOK w = true) {s U : State} (hW : s.WarmedH U.vm) (h : va_Nw w s) : va_Nw w U := by
  cases w with
  | fieldLinkNest a i b n d h9 => exact h.warmF hW
  | methodLinkNest a i x h9 => exact h.warmM hW
  | castable C T => exact h.warmC hW
  | _ => cases hw
theorem fwL_ok : ∀ t ∈ fwL, t.2.1.cls ≠ "java/lang/invoke/MethodHandle" ∧ t.2.1.cls ≠ "java/lang/invoke/VarHandle" := by decide +kernel
theorem Tb.moved {G : gT} {s U : State} (hW : s.WarmedH U.vm) (h : Tb G s) : Tb G U :=
  ⟨h.1.moved hW.alike, fun w hw => nw_moved (List.all_eq_true.mp nwL_ok w hw) hW (h.2.1 w hw), fun t ht => (h.2.2.1 t ht).moved (fwL_ok t ht) hW.alike, fun C hC => (h.2.2.2.1 C hC).moved hW.alike, fun t ht => (h.2.2.2.2.1 t ht).moved hW.alike, fun x hx => (h.2.2.2.2.2.1 x hx).warmD hW, h.2.2.2.2.2.2.moved hW.alike⟩
def St (G : gT) (U : State) (H : Heap) : Prop :=
  va_Z "java/util/ArrayList" "DEFAULTCAPACITY_EMPTY_ELEMENTDATA" "[Ljava/lang/Object;" (.ref (gE0 G)) (aA G) U H ∧
  va_T (.object "java/lang/Object") (gE0 G) 0 (fun _ => .null) (aA G) U H ∧
  vb_C (gAd G) (aA G) U H ∧
  va_Z "java/lang/Integer$IntegerCache" "high" "I" (.int 127) (aA G) U H ∧
  va_Z "java/lang/Integer$IntegerCache" "cache" "[Ljava/lang/Integer;" (.ref (gCa G)) (aA G) U H ∧
  va_T (.object "java/lang/Integer") (gCa G) 256 (fun j => .ref (gAd G j)) (aA G) U H ∧
  va_Z "java/util/BitSet" "$assertionsDisabled" "Z" (.int 1) (aA G) U H ∧
  vx_Zq Bundle.tN "UNASSIGNED_STACK" Bundle.steD (aA G) U H ∧ vx_Zq Bundle.tN "SUPPRESSED_SENTINEL" Bundle.listD (aA G) U H ∧
  va_X (gSb G) (gSn G) (gSx G) U H ∧ gSb G < G.1
theorem St.moved {G : gT} {u U : State} {H H1 : Heap} (hvm : u.vm.Alike U.vm) (hq : ∀ a : Nat, a < H.size → ¬ aA G a → H1[a]? = H[a]?) (hsz : G.1 ≤ H.size) (h : St G u H) : St G U H1 :=
  ⟨(h.1.moved hvm).kept hq, (h.2.1.moved hvm).kept hq, (h.2.2.1.moved hvm).kept hq, (h.2.2.2.1.moved hvm).kept hq, (h.2.2.2.2.1.moved hvm).kept hq, (h.2.2.2.2.2.1.moved hvm).kept hq, (h.2.2.2.2.2.2.1.moved hvm).kept hq, (h.2.2.2.2.2.2.2.1.moved hvm).kept hq, (h.2.2.2.2.2.2.2.2.1.moved hvm).kept hq, (h.2.2.2.2.2.2.2.2.2.1.moved hvm).kept (hq _ (Nat.lt_of_lt_of_le h.2.2.2.2.2.2.2.2.2.2 hsz) (Nat.not_le.mpr h.2.2.2.2.2.2.2.2.2.2)), h.2.2.2.2.2.2.2.2.2.2⟩
/-! what an entry says of the machine's heap; τ: the entry that owns a cell (none: boxed ints, which nobody writes) -/
def IntC (G : gT) (H : Heap) (y : Nat) (v : Int32) : Prop := ∃ cell : Cell, H[y]? = some cell ∧ cell.cls = (gD G).1 12 ∧ cell.vm.isStatics = false ∧ cell.vm ≠ .unknown ∧ cell.slots[(gD G).2 12 0]? = some (.int v)
def elR (G : gT) (τ : Nat → Option Nat) (H : Heap) (x : Value) (r : Option Nat) : Prop := match x with
  | .ref a => r = some a
  | .int v => ∃ y : Nat, r = some y ∧ τ y = none ∧ IntC G H y v
  | _ => False
def vaO (G : gT) (a ci : Nat) (fs : List Value) (H : Heap) : Prop := va_at (gD G) clAll (a, .inr (ci, fs)) H
def vaA (G : gT) (a t : Nat) (v : vp_A) (H : Heap) : Prop := va_at (gD G) clAll (a, .inl (gA G t, v)) H
def rlAL (G : gT) (τ : Nat → Option Nat) (H : Heap) (a : Nat) (xs : List Value) (md : Int32) : Prop :=
  ∃ arr : Nat, vaO G a 8 [.int md, .ref arr, .int (nI xs.length)] H ∧ ((xs = [] ∧ arr = gE0 G) ∨
    ∃ (cap : Nat) (f : Nat → Option Nat), arr ≠ a ∧ τ arr = some a ∧ G.1 ≤ arr ∧ vaA G arr 2 (cap, .inr (.inr (.inr (.inr f)))) H ∧ xs.length ≤ cap ∧ 1 ≤ cap ∧ cap ≤ 65536 ∧ (∀ (i : Nat) (x : Value), xs[i]? = some x → elR G τ H x (f i)) ∧ ∀ i : Nat, xs.length ≤ i → f i = none)
def rlLL (G : gT) (τ : Nat → Option Nat) (H : Heap) (a : Nat) (xs : List Value) (md : Int32) : Prop :=
  ∃ ns : List Nat, ns.length = xs.length ∧ ns.Nodup ∧ xs.length ≤ 65536 ∧ vaO G a 9 [.int md, .int (nI xs.length), va_rf ns.head?, va_rf ns.getLast?] H ∧
    ∀ (i nd : Nat) (x : Value), ns[i]? = some nd → xs[i]? = some x → nd ≠ a ∧ τ nd = some a ∧ G.1 ≤ nd ∧ ∃ it : Option Nat, elR G τ H x it ∧ vaO G nd 10 [va_rf it, va_rf ns[i + 1]?, va_rf (if i = 0 then none else ns[i - 1]?)] H
def rlAD (G : gT) (τ : Nat → Option Nat) (H : Heap) (a : Nat) (xs : List Value) : Prop :=
  ∃ (arr hd : Nat) (f : Nat → Option Nat), vaO G a 11 [.ref arr, .int (nI hd), .int (nI ((hd + xs.length) % 17))] H ∧ hd < 17 ∧ xs.length ≤ 16 ∧ arr ≠ a ∧ τ arr = some a ∧ G.1 ≤ arr ∧ vaA G arr 2 (17, .inr (.inr (.inr (.inr f)))) H ∧
    (∀ (i : Nat) (x : Value), xs[i]? = some x → elR G τ H x (f ((hd + i) % 17))) ∧ ∀ i : Nat, xs.length ≤ i → i < 17 → f ((hd + i) % 17) = none
def rlBS (G : gT) (τ : Nat → Option Nat) (H : Heap) (a : Nat) (b : Nat → Bool) : Prop :=
  ∃ (arr u : Nat) (z : Bool) (f : Nat → Int64), vaO G a 15 [.ref arr, .int (nI u), .int (bI z)] H ∧ arr ≠ a ∧ τ arr = some a ∧ G.1 ≤ arr ∧ vaA G arr 1 (16, .inr (.inl f)) H ∧ u ≤ 16 ∧ (u ≠ 0 → f (u - 1) ≠ 0) ∧ (∀ k : Nat, u ≤ k → f k = 0) ∧ ∀ j : Nat, b j = (f (j / 64)).toBitVec.getLsbD (j % 64)
def Rl (G : gT) (τ : Nat → Option Nat) (H : Heap) (a : Nat) (e : E2) : Prop := match e with
  | .inl (t, v) => τ a = some a ∧ G.1 ≤ a ∧ t < 6 ∧ vaA G a t v H
  | .inr (.inl (ci, fs)) => τ a = some a ∧ G.1 ≤ a ∧ vaO G a ci fs H
  | .inr (.inr (.inl (k, xs, md))) => τ a = some a ∧ G.1 ≤ a ∧ (k = 0 → rlAL G τ H a xs md) ∧ (k = 1 → rlLL G τ H a xs md) ∧ (k ≠ 0 → k ≠ 1 → rlAD G τ H a xs)
  | .inr (.inr (.inr (.inl b))) => τ a = some a ∧ G.1 ≤ a ∧ rlBS G τ H a b
  | .inr (.inr (.inr (.inr v))) => τ a = none ∧ IntC G H a v
def HpR (G : gT) (h : Hp) (H : Heap) : Prop := ∃ τ : Nat → Option Nat, (∀ x : Nat, x < G.1 → τ x = none) ∧ ∀ (a : Nat) (e : E2), h a = some e → Rl G τ H a e
def Wd (G : gT) (h : Hp) (U : State) : Prop := Tb G U ∧ St G U U.heap ∧ HpR G h U.heap ∧ G.1 ≤ U.heap.size
def Wk (G : gT) (s : State) (h : Hp) (H : Heap) (locs : List Loc) : Prop := HpR G h H ∧ va_S (aA G) s.heap H locs
theorem IntC.lt {G : gT} {H : Heap} {y : Nat} {v : Int32} (h : IntC G H y v) : y < H.size := by
  obtain ⟨cell, h1, -⟩ := h
  exact (Array.getElem?_eq_some_iff.mp h1).1
theorem IntC.kept {G : gT} {H H1 : Heap} {y : Nat} {v : Int32} (h : IntC G H y v) (hq : H1[y]? = H[y]?) : IntC G H1 y v := by
  obtain ⟨cell, h1, h2⟩ := h
  exact ⟨cell, by rw [hq]; exact h1, h2⟩
theorem elR.kept {G : gT} {τ τ1 : Nat → Option Nat} {H H1 : Heap} {x : Value} {r : Option Nat} (h : elR G τ H x r) (hq : ∀ y : Nat, y < H.size → τ y = none → H1[y]? = H[y]? ∧ τ1 y = τ y) : elR G τ1 H1 x r := by
  cases x with
  | int v =>
    obtain ⟨y, h1, h2, h3⟩ := h
    obtain ⟨q1, q2⟩ := hq y h3.lt h2
    exact ⟨y, h1, by rw [q2]; exact h2, h3.kept q1⟩
  | _ => exact h
/-- an entry stays true where its own cells, and the boxed ints, stay -/
theorem Rl.frame {G : gT} {τ τ1 : Nat → Option Nat} {H H1 : Heap} {a : Nat} {e : E2} (h : Rl G τ H a e) (hk : ∀ x : Nat, x < H.size → (τ x = some a ∨ τ x = none) → H1[x]? = H[x]? ∧ τ1 x = τ x) : Rl G τ1 H1 a e := by
  have hn : ∀ y : Nat, y < H.size → τ y = none → H1[y]? = H[y]? ∧ τ1 y = τ y := fun y h1 h2 => hk y h1 (Or.inr h2)
  have hO : ∀ {q ci : Nat} {fs : List Value}, vaO G q ci fs H → τ q = some a → vaO G q ci fs H1 ∧ τ1 q = τ q := fun {q ci fs} z zt => by
    obtain ⟨q1, q2⟩ := hk q (va_at.lt z) (Or.inl zt)
    exact ⟨va_at.kept z q1, q2⟩
  have hAr : ∀ {q t : Nat} {v : vp_A}, vaA G q t v H → τ q = some a → vaA G q t v H1 ∧ τ1 q = τ q := fun {q t v} z zt => by
    obtain ⟨q1, q2⟩ := hk q (va_at.lt z) (Or.inl zt)
    exact ⟨va_at.kept z q1, q2⟩
  rcases e with ⟨t, v⟩ | ⟨ci, fs⟩ | ⟨k, xs, md⟩ | b | v
  · obtain ⟨h1, h2, h3, h4⟩ := h
    obtain ⟨q1, q2⟩ := hAr h4 h1
    exact ⟨by rw [q2]; exact h1, h2, h3, q1⟩
  · obtain ⟨h1, h2, h4⟩ := h
    obtain ⟨q1, q2⟩ := hO h4 h1
    exact ⟨by rw [q2]; exact h1, h2, q1⟩
  · obtain ⟨h1, h2, h3, h4, h5⟩ := h
    have ht : τ1 a = τ a := by
      by_cases k0 : k = 0
      · obtain ⟨arr, g1, -⟩ := h3 k0
        exact (hO g1 h1).2
      · by_cases k1 : k = 1
        · obtain ⟨ns, -, -, -, g1, -⟩ := h4 k1
          exact (hO g1 h1).2
        · obtain ⟨arr, hd, f, g1, -⟩ := h5 k0 k1
          exact (hO g1 h1).2
    refine ⟨by rw [ht]; exact h1, h2, fun k0 => ?_, fun k1 => ?_, fun k0 k1 => ?_⟩
    · obtain ⟨arr, g1, g2⟩ := h3 k0
      refine ⟨arr, (hO g1 h1).1, ?_⟩
      rcases g2 with g2 | ⟨cap, f, g2, g3, g4, g5, g6, g7, g8, g9, g10⟩
      · exact Or.inl g2
      · obtain ⟨q1, q2⟩ := hAr g5 g3
        exact Or.inr ⟨cap, f, g2, by rw [q2]; exact g3, g4, q1, g6, g7, g8, fun i x hx => (g9 i x hx).kept hn, g10⟩
    · obtain ⟨ns, g1, g2, g3, g4, g5⟩ := h4 k1
      refine ⟨ns, g1, g2, g3, (hO g4 h1).1, fun i nd x hi hx => ?_⟩
      obtain ⟨p1, p2, p3, it, p4, p5⟩ := g5 i nd x hi hx
      obtain ⟨q1, q2⟩ := hO p5 p2
      exact ⟨p1, by rw [q2]; exact p2, p3, it, p4.kept hn, q1⟩
    · obtain ⟨arr, hd, f, g1, g2, g3, g4, g5, g6, g7, g8, g9⟩ := h5 k0 k1
      obtain ⟨q1, q2⟩ := hAr g7 g5
      exact ⟨arr, hd, f, (hO g1 h1).1, g2, g3, g4, by rw [q2]; exact g5, g6, q1, fun i x hx => (g8 i x hx).kept hn, g9⟩
  · obtain ⟨h1, h2, arr, u, z, f, g1, g2, g3, g4, g5, g6⟩ := h
    obtain ⟨q1, q2⟩ := hAr g5 g3
    obtain ⟨q3, q4⟩ := hO g1 h1
    exact ⟨by rw [q4]; exact h1, h2, arr, u, z, f, q3, g2, by rw [q2]; exact g3, g4, q1, g6⟩
  · obtain ⟨h1, h2⟩ := h
    obtain ⟨q1, q2⟩ := hk a h2.lt (Or.inr h1)
    exact ⟨by rw [q2]; exact h1, h2.kept q1⟩
theorem Rl.lt {G : gT} {τ : Nat → Option Nat} {H : Heap} {a : Nat} {e : E2} (h : Rl G τ H a e) : a < H.size := by
  rcases e with ⟨t, v⟩ | ⟨ci, fs⟩ | ⟨k, xs, md⟩ | b | v
  · exact va_at.lt h.2.2.2
  · exact va_at.lt h.2.2
  · obtain ⟨h1, h2, h3, h4, h5⟩ := h
    by_cases k0 : k = 0
    · obtain ⟨arr, g1, -⟩ := h3 k0
      exact va_at.lt g1
    · by_cases k1 : k = 1
      · obtain ⟨ns, -, -, -, g1, -⟩ := h4 k1
        exact va_at.lt g1
      · obtain ⟨arr, hd, f, g1, -⟩ := h5 k0 k1
        exact va_at.lt g1
  · obtain ⟨h1, h2, arr, u, z, f, g1, -⟩ := h
    exact va_at.lt g1
  · exact h.2.lt
/-- the heap with one plain entry written anew -/
theorem HpR.put {G : gT} {h : Hp} {H H1 : Heap} {a : Nat} {e0 e1 : E2} (hR : HpR G h H) (ha : h a = some e0) (hp : (∃ t v, e0 = eA t v) ∨ ∃ ci fs, e0 = eO ci fs) (hq : ∀ q : Nat, q ≠ a → H1[q]? = H[q]?) (hz : H1.size = H.size) (h1 : ∀ τ : Nat → Option Nat, τ a = some a → Rl G τ H1 a e1) : HpR G (hup h a e1) H1 := by
  obtain ⟨τ, hlow, hτ⟩ := hR
  have hta : τ a = some a := by
    have := hτ a e0 ha
    rcases hp with ⟨t, v, rfl⟩ | ⟨ci, fs, rfl⟩
    · exact this.1
    · exact this.1
  refine ⟨τ, hlow, fun b e he => ?_⟩
  by_cases hb : b = a
  · subst hb
    rw [hup_s] at he
    cases he
    exact h1 τ hta
  · rw [hup_n h e1 hb] at he
    refine (hτ b e he).frame fun x hx hx2 => ⟨hq x fun hxa => ?_, rfl⟩
    subst hxa
    rw [hta] at hx2
    rcases hx2 with hx2 | hx2
    · exact hb (Option.some.inj hx2).symm
    · cases hx2
/-- the heap with a new entry -/
theorem HpR.push {G : gT} {h : Hp} {H H1 : Heap} {e1 : E2} (hR : HpR G h H) (hz : G.1 ≤ H.size) (hq : ∀ q : Nat, q < H.size → H1[q]? = H[q]?) (h1 : ∀ τ : Nat → Option Nat, τ H.size = some H.size → Rl G τ H1 H.size e1) : h H.size = none ∧ HpR G (hup h H.size e1) H1 := by
  obtain ⟨τ, hlow, hτ⟩ := hR
  have h0 : h H.size = none := by
    cases hc : h H.size with
    | none => rfl
    | some e => exact absurd (hτ _ _ hc).lt (Nat.lt_irrefl _)
  refine ⟨h0, fun q => if q = H.size then some H.size else τ q, fun x hx => (if_neg (show ¬ x = H.size by omega)).trans (hlow x hx), fun b e he => ?_⟩
  by_cases hb : b = H.size
  · subst hb
    rw [hup_s] at he
    cases he
    exact h1 _ (if_pos rfl)
  · rw [hup_n h e1 hb] at he
    refine (hτ b e he).frame fun x hx hx2 => ⟨hq x hx, if_neg (by omega)⟩
theorem HpR.obj {G : gT} {h : Hp} {H : Heap} (hR : HpR G h H) {a ci : Nat} {fs : List Value} (ha : h a = some (eO ci fs)) : G.1 ≤ a ∧ vaO G a ci fs H := by
  obtain ⟨τ, hlow, hτ⟩ := hR
  have := hτ a _ ha
  exact ⟨this.2.1, this.2.2⟩
theorem HpR.arr {G : gT} {h : Hp} {H : Heap} (hR : HpR G h H) {a t : Nat} {v : vp_A} (ha : h a = some (eA t v)) : G.1 ≤ a ∧ t < 6 ∧ vaA G a t v H := by
  obtain ⟨τ, hlow, hτ⟩ := hR
  have := hτ a _ ha
  exact ⟨this.2.1, this.2.2.1, this.2.2.2⟩
/-- a receiver's class -/
theorem HpR.recv {G : gT} {h : Hp} {H : Heap} {s : State} (hR : HpR G h H) (hT : Tb G s) {a ci : Nat} {q : vw_C} (hc : clAll[ci]? = some q) (ha : hasC h a ci) : ∃ cell : Cell, H[a]? = some cell ∧ cell.vm.isStatics = false ∧ s.vm.findClass q.1 = some cell.cls := by
  obtain ⟨τ, hlow, hτ⟩ := hR
  have main : ∀ {fs : List Value}, vaO G a ci fs H → ∃ cell : Cell, H[a]? = some cell ∧ cell.vm.isStatics = false ∧ s.vm.findClass q.1 = some cell.cls := by
    intro fs z
    exact va_recv (ws := [(a, .inr (ci, fs))]) (q0 := 0) hT.1 (fun k p hk => by
      match k, hk with
      | 0, hk => cases hk; exact z
      | k + 1, hk => simp at hk) hc rfl
  unfold hasC at ha
  cases hh : h a with
  | none => rw [hh] at ha; exact ha.elim
  | some e =>
    rw [hh] at ha
    have hr := hτ a e hh
    rcases e with ⟨t, v⟩ | ⟨c, fs⟩ | ⟨k, xs, md⟩ | b | v
    · exact ha.elim
    · cases ha
      exact main hr.2.2
    · simp only at ha
      by_cases k0 : k = 0
      · rw [if_pos k0] at ha
        subst ha
        obtain ⟨arr, g1, -⟩ := hr.2.2.1 k0
        exact main g1
      · rw [if_neg k0] at ha
        by_cases k1 : k = 1
        · rw [if_pos k1] at ha
          subst ha
          obtain ⟨ns, -, -, -, g1, -⟩ := hr.2.2.2.1 k1
          exact main g1
        · rw [if_neg k1] at ha
          subst ha
          obtain ⟨arr, hd, f, g1, -⟩ := hr.2.2.2.2 k0 k1
          exact main g1
    · cases ha
      obtain ⟨h1, h2, arr, u, z, f, g1, -⟩ := hr
      exact main g1
    · cases ha
      obtain ⟨h1, cell, g1, g2, g3, -⟩ := hr
      exact ⟨cell, g1, g3, by rw [g2]; exact (hT.1.1 12 q hc).2.1⟩
theorem Tb.kn {G : gT} {s : State} (hT : Tb G s) {ci : Nat} {q : vw_C} (hc : clAll[ci]? = some q) : u_Kn s q.1 q.2.1 q.2.2 ((gD G).1 ci) ((gD G).2 ci) := hT.1.1 ci q hc
theorem Tb.at {G : gT} {s : State} (hT : Tb G s) {t : Nat} (ht : t < 6) : ArrOfT s (gA G t) (atys t) ∧ va_RA s (gA G t) (atys t) := hT.1.2 t _ (tysOf_at G ht)
theorem Wd.of {G : gT} {s U : State} {h : Hp} {H : Heap} {locs : List Loc} (hT : Tb G s) (hZ : St G s s.heap) (hz : G.1 ≤ s.heap.size) (K : Wk G s h H locs) (hW : s.WarmedH U.vm) (hU : U.heap = H) : Wd G h U := by
  subst hU
  exact ⟨hT.moved hW, hZ.moved hW.alike K.2.2.1 hz, K.1, Nat.le_trans hz K.2.1⟩
theorem Wd.blind {G : gT} {h : Hp} {av : List Value} : FrameBlind (va_Pc av (Wd G h)) := by
  intro a U g mk q
  obtain ⟨q0, q1, q2, q3, q4⟩ := q
  exact ⟨q0, q1.moved (State.WarmedH.refl U), q2.moved (Vm.Alike.refl U.vm) (fun _ _ _ => rfl) q4, q3, q4⟩
/-! contracts, contexts -/
def QcG (G : gT) (Q : Option Value → Hp → Prop) : Array Value → State → Outcome → State → Prop := fun _ st oc t => (∃ (v : Option Value) (h' : Hp), oc = .returned v ∧ Q v h' ∧ Wd G h' t) ∧ va_F (aA G) st t
def XcG (G : gT) (X : String → Hp → Prop) : String → State → State → Prop := fun E st t => (∃ h' : Hp, X E h' ∧ HpR G h' t.heap) ∧ va_F (aA G) st t
abbrev rmO (fr lo mc ms : Nat) : Room := { frames := fr, cells := mc, slots := ms, locals := lo }
def Ct (G : gT) (l : Launch) (y : MethodName) (ws : List Cond) (fr lo mc ms : Nat) (av : List Value) (h : Hp) (Q : Option Value → Hp → Prop) : Prop := Met l y ws (rmO fr lo mc ms) (va_Pc av (Wd G h)) (QcG G Q) mc ms (aA G)
def CtX (G : gT) (l : Launch) (y : MethodName) (ws : List Cond) (fr lo mc ms : Nat) (av : List Value) (h : Hp) (Q : Option Value → Hp → Prop) (X : String → Hp → Prop) : Prop := vx_Met l y ws (rmO fr lo mc ms) (va_Pc av (Wd G h)) (QcG G Q) (XcG G X) mc ms (aA G)
def fin (G : gT) (Q : Option Value → Hp → Prop) (X : Option (String → Hp → Prop)) (below : List Frame) (args : Array Value) (s : State) (mc ms : Nat) : State → Prop := match X with
  | none => MQ below (QcG G Q) args s mc ms (aA G)
  | some X => vx_MQ below (QcG G Q) (XcG G X) args s mc ms (aA G)
def Vp (G : gT) (p : Program) (l : Launch) (e : Env) (fr lo : Nat) (s : State) (m : MethodId) (args : Array Value) (below : List Frame) (meth : Method) (c : Code) (nL mc ms : Nat) (F : State → Prop) (h : Hp) (cn n pc : Nat) (L : List (Nat × Value)) (stk : List Value) : Prop :=
  ∀ (H : Heap) (locs : List Loc) (ls : Array Slot), Wk G s h H locs → lv_has ls nL L → W p l e (rmO fr lo mc ms) s m args below meth c H locs cn n F (F0 m pc ls stk)
/-- all that a method's walk stands on; V: the goal at a place -/
def Cx (G : gT) (l : Launch) (V : Hp → Nat → Nat → Nat → List (Nat × Value) → List Value → Prop) (cc : ByteArray) (nL : Nat) (own : String) (fr lo mc ms : Nat) (Q : Option Value → Hp → Prop) (X : Option (String → Hp → Prop)) (rt : Option FieldType) (hh : List (Nat × Nat × Nat × Nat)) (ini : Bool) : Prop :=
  ∃ (p : Program) (e : Env) (s : State) (m : MethodId) (args : Array Value) (below : List Frame) (meth : Method) (c : Code), V = Vp G p l e fr lo s m args below meth c nL mc ms (fin G Q X below args s mc ms) ∧
    p.tables.exec = Jvm.exec ∧ c.code = cc ∧ c.maxLocals = nL ∧ s.vm.findClass own = some m.cls ∧ (∀ w ∈ lw_all, w.before args s = true) ∧ meth.locks = false ∧ meth.sig.returnType = rt ∧ Tb G s ∧ St G s s.heap ∧ G.1 ≤ s.heap.size ∧
    (X.isSome = true ∨ hh ≠ [] → c.exceptionTable.toList = tableOf hh) ∧ (ini = true → meth.name = "<init>") ∧ (X.isSome = true → l.stackTraces = false)
