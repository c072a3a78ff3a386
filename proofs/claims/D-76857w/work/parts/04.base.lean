/-! 04 BASE: numbers as Int, the abstract heap, record worlds -/
set_option maxRecDepth 100000
-- ---------- numbers
def vI (x : Int) : Value := .int (Int32.ofInt x)
def vL (x : Int) : Value := .long (Int64.ofInt x)
def w32 (x : Int) : Int := x.bmod 4294967296
def w64 (x : Int) : Int := x.bmod 18446744073709551616
theorem toInt_w32 (x : Int) : (Int32.ofInt x).toInt = w32 x := Int32.toInt_ofInt
theorem toInt_w64 (x : Int) : (Int64.ofInt x).toInt = w64 x := Int64.toInt_ofInt
theorem w32_of {x : Int} (h1 : -2147483648 ≤ x) (h2 : x < 2147483648) : w32 x = x := by
  unfold w32; rw [Int.bmod_def]; omega
theorem w64_of {x : Int} (h1 : -9223372036854775808 ≤ x) (h2 : x < 9223372036854775808) : w64 x = x := by
  unfold w64; rw [Int.bmod_def]; omega
theorem w32_rng (x : Int) : -2147483648 ≤ w32 x ∧ w32 x < 2147483648 := by
  unfold w32; rw [Int.bmod_def]; omega
theorem w64_rng (x : Int) : -9223372036854775808 ≤ w64 x ∧ w64 x < 9223372036854775808 := by
  unfold w64; rw [Int.bmod_def]; omega
theorem i32_eq {x y : Int} : Int32.ofInt x = Int32.ofInt y ↔ w32 x = w32 y := by rw [← Int32.toInt_inj, toInt_w32, toInt_w32]
theorem i32_lt {x y : Int} : Int32.ofInt x < Int32.ofInt y ↔ w32 x < w32 y := by rw [Int32.lt_iff_toInt_lt, toInt_w32, toInt_w32]
theorem i32_le {x y : Int} : Int32.ofInt x ≤ Int32.ofInt y ↔ w32 x ≤ w32 y := by rw [Int32.le_iff_toInt_le, toInt_w32, toInt_w32]
theorem i64_eq {x y : Int} : Int64.ofInt x = Int64.ofInt y ↔ w64 x = w64 y := by rw [← Int64.toInt_inj, toInt_w64, toInt_w64]
theorem i64_lt {x y : Int} : Int64.ofInt x < Int64.ofInt y ↔ w64 x < w64 y := by rw [Int64.lt_iff_toInt_lt, toInt_w64, toInt_w64]
theorem i32_w (x : Int) : Int32.ofInt (w32 x) = Int32.ofInt x := by rw [← toInt_w32, Int32.ofInt_toInt]
theorem i64_w (x : Int) : Int64.ofInt (w64 x) = Int64.ofInt x := by rw [← toInt_w64, Int64.ofInt_toInt]
theorem vI_w (x : Int) : vI (w32 x) = vI x := by unfold vI; rw [i32_w]
theorem vL_w (x : Int) : vL (w64 x) = vL x := by unfold vL; rw [i64_w]
theorem w32_0 : w32 0 = 0 := by decide
theorem w64_0 : w64 0 = 0 := by decide
theorem i32_in {i : Int} {n : Nat} (h : 0 ≤ i ∧ i < n) (hn : n ≤ 100000000) : vp_in (Int32.ofInt i) n ∧ (Int32.ofInt i).toNatClampNeg = i.toNat := by
  have hw : w32 i = i := w32_of (by omega) (by omega)
  have h1 : (Int32.ofInt i).toInt = i := by rw [toInt_w32, hw]
  refine ⟨vp_in_iff.mpr (by rw [h1]; exact h), ?_⟩
  show (Int32.ofInt i).toInt.toNat = i.toNat
  rw [h1]
-- operations that aren't of a ring
def iDiv (x y : Int) : Int := (Int32.ofInt x / Int32.ofInt y).toInt
def iRem (x y : Int) : Int := (Int32.ofInt x - Int32.ofInt x / Int32.ofInt y * Int32.ofInt y).toInt
def iAnd (x y : Int) : Int := (Int32.ofInt x &&& Int32.ofInt y).toInt
def iOr (x y : Int) : Int := (Int32.ofInt x ||| Int32.ofInt y).toInt
def iShl (x y : Int) : Int := (Int32.ofInt x <<< (Int32.ofInt y &&& 31)).toInt
def iShr (x y : Int) : Int := (Int32.ofInt x >>> (Int32.ofInt y &&& 31)).toInt
def lShl (x y : Int) : Int := (Int64.ofInt x <<< ((Int32.ofInt y).toInt64 &&& 63)).toInt
def i2b (x : Int) : Int := (Int32.ofInt x).toInt8.toInt
-- ---------- the little monad of partial functions
def ob {α β : Type} (e : Option β) (f : β → Option α) : Option α := match e with
  | none => none
  | some b => f b
def ob2 {α β γ : Type} (e : Option (β × γ)) (f : β → γ → Option α) : Option α := match e with
  | none => none
  | some (r, M) => f r M
def jn {α β : Type} (v : β) (f : β → Option α) : Option α := f v
theorem ob_some {α β : Type} {e : Option β} {f : β → Option α} {out : α} (h : ob e f = some out) : ∃ b, e = some b ∧ f b = some out := by
  cases e with
  | none => cases h
  | some b => exact ⟨b, rfl, h⟩
theorem ob2_some {α β γ : Type} {e : Option (β × γ)} {f : β → γ → Option α} {out : α} (h : ob2 e f = some out) : ∃ r M, e = some (r, M) ∧ f r M = some out := by
  cases e with
  | none => cases h
  | some q => obtain ⟨r, M⟩ := q; exact ⟨r, M, rfl, h⟩
theorem e_case {α : Type} {c : Prop} [Decidable c] {A B : Option α} {out : α} {G : Prop} (hE : (if c then A else B) = some out) (kt : c → A = some out → G) (kf : ¬ c → B = some out → G) : G := by
  by_cases h : c
  · rw [if_pos h] at hE; exact kt h hE
  · rw [if_neg h] at hE; exact kf h hE
-- ---------- the abstract heap
abbrev HP : Type := Nat → Option va_E
def hup (hp : HP) (a : Nat) (e : va_E) : HP := fun b => if b = a then some e else hp b
/-- classes, array classes, the heap at the law's start -/
abbrev GG : Type := va_G × (Nat → ClassId) × Heap
/-- array classes: 0 [I 1 [J 2 [Z 3 [B 4 [Object 5 [Place 6 [Road 7 [[J -/
def TYS (cA : Nat → ClassId) : List (ClassId × FieldType) := [(cA 0, .int), (cA 1, .long), (cA 2, .boolean), (cA 3, .byte), (cA 4, .object "java/lang/Object"), (cA 5, .object "FreightRoads$Place"), (cA 6, .object "FreightRoads$Road"), (cA 7, .array .long)]
def twOk : Cond → Bool
  | .fieldLinkNest .. => true
  | .methodLinkNest .. => true
  | .castable .. => true
  | .declares .. => true
  | _ => false
/-- the tables' words that don't ride in the lists -/
def TW : List Cond := lw_tbl.filter twOk
def FWL : List (String × MethodName × MethodName) := [("FreightRoads$ByPrice", ⟨"java/util/Comparator", "compare", "(Ljava/lang/Object;Ljava/lang/Object;)I"⟩, ⟨"FreightRoads$ByPrice", "compare", "(Ljava/lang/Object;Ljava/lang/Object;)I"⟩), ("FreightRoads$Each", ⟨"java/lang/Comparable", "compareTo", "(Ljava/lang/Object;)I"⟩, ⟨"FreightRoads$Each", "compareTo", "(Ljava/lang/Object;)I"⟩), ("FreightRoads$Place", ⟨"java/lang/Comparable", "compareTo", "(Ljava/lang/Object;)I"⟩, ⟨"FreightRoads$Place", "compareTo", "(Ljava/lang/Object;)I"⟩), ("java/lang/Integer", ⟨"java/lang/Comparable", "compareTo", "(Ljava/lang/Object;)I"⟩, ⟨"java/lang/Integer", "compareTo", "(Ljava/lang/Object;)I"⟩), ("java/lang/String", ⟨"java/lang/Comparable", "compareTo", "(Ljava/lang/Object;)I"⟩, ⟨"java/lang/String", "compareTo", "(Ljava/lang/Object;)I"⟩), ("java/lang/StringBuilder", ⟨"java/lang/Comparable", "compareTo", "(Ljava/lang/Object;)I"⟩, ⟨"java/lang/StringBuilder", "compareTo", "(Ljava/lang/Object;)I"⟩), ("java/util/AbstractList$ListItr", ⟨"java/util/Iterator", "hasNext", "()Z"⟩, ⟨"java/util/AbstractList$Itr", "hasNext", "()Z"⟩), ("java/util/AbstractList$ListItr", ⟨"java/util/Iterator", "next", "()Ljava/lang/Object;"⟩, ⟨"java/util/AbstractList$Itr", "next", "()Ljava/lang/Object;"⟩), ("java/util/AbstractList$ListItr", ⟨"java/util/Iterator", "remove", "()V"⟩, ⟨"java/util/AbstractList$Itr", "remove", "()V"⟩), ("java/util/ArrayDeque", ⟨"java/util/Collection", "iterator", "()Ljava/util/Iterator;"⟩, ⟨"java/util/ArrayDeque", "iterator", "()Ljava/util/Iterator;"⟩), ("java/util/ArrayDeque$DeqIterator", ⟨"java/util/Iterator", "hasNext", "()Z"⟩, ⟨"java/util/ArrayDeque$DeqIterator", "hasNext", "()Z"⟩), ("java/util/ArrayDeque$DeqIterator", ⟨"java/util/Iterator", "next", "()Ljava/lang/Object;"⟩, ⟨"java/util/ArrayDeque$DeqIterator", "next", "()Ljava/lang/Object;"⟩), ("java/util/ArrayDeque$DeqIterator", ⟨"java/util/Iterator", "remove", "()V"⟩, ⟨"java/util/ArrayDeque$DeqIterator", "remove", "()V"⟩), ("java/util/ImmutableCollections$List12", ⟨"java/util/Collection", "iterator", "()Ljava/util/Iterator;"⟩, ⟨"java/util/ImmutableCollections$AbstractImmutableList", "iterator", "()Ljava/util/Iterator;"⟩), ("java/util/ImmutableCollections$List12", ⟨"java/util/List", "get", "(I)Ljava/lang/Object;"⟩, ⟨"java/util/ImmutableCollections$List12", "get", "(I)Ljava/lang/Object;"⟩), ("java/util/ImmutableCollections$List12", ⟨"java/util/List", "size", "()I"⟩, ⟨"java/util/ImmutableCollections$List12", "size", "()I"⟩), ("java/util/ImmutableCollections$ListItr", ⟨"java/util/Iterator", "hasNext", "()Z"⟩, ⟨"java/util/ImmutableCollections$ListItr", "hasNext", "()Z"⟩), ("java/util/ImmutableCollections$ListItr", ⟨"java/util/Iterator", "next", "()Ljava/lang/Object;"⟩, ⟨"java/util/ImmutableCollections$ListItr", "next", "()Ljava/lang/Object;"⟩), ("java/util/ImmutableCollections$ListItr", ⟨"java/util/Iterator", "remove", "()V"⟩, ⟨"java/util/ImmutableCollections$ListItr", "remove", "()V"⟩), ("java/util/ImmutableCollections$ListN", ⟨"java/util/Collection", "iterator", "()Ljava/util/Iterator;"⟩, ⟨"java/util/ImmutableCollections$AbstractImmutableList", "iterator", "()Ljava/util/Iterator;"⟩), ("java/util/ImmutableCollections$ListN", ⟨"java/util/List", "get", "(I)Ljava/lang/Object;"⟩, ⟨"java/util/ImmutableCollections$ListN", "get", "(I)Ljava/lang/Object;"⟩), ("java/util/ImmutableCollections$ListN", ⟨"java/util/List", "size", "()I"⟩, ⟨"java/util/ImmutableCollections$ListN", "size", "()I"⟩), ("java/util/LinkedList", ⟨"java/util/Collection", "iterator", "()Ljava/util/Iterator;"⟩, ⟨"java/util/AbstractSequentialList", "iterator", "()Ljava/util/Iterator;"⟩), ("java/util/LinkedList", ⟨"java/util/List", "get", "(I)Ljava/lang/Object;"⟩, ⟨"java/util/LinkedList", "get", "(I)Ljava/lang/Object;"⟩), ("java/util/LinkedList", ⟨"java/util/List", "size", "()I"⟩, ⟨"java/util/LinkedList", "size", "()I"⟩), ("java/util/LinkedList$ListItr", ⟨"java/util/Iterator", "hasNext", "()Z"⟩, ⟨"java/util/LinkedList$ListItr", "hasNext", "()Z"⟩), ("java/util/LinkedList$ListItr", ⟨"java/util/Iterator", "next", "()Ljava/lang/Object;"⟩, ⟨"java/util/LinkedList$ListItr", "next", "()Ljava/lang/Object;"⟩), ("java/util/LinkedList$ListItr", ⟨"java/util/Iterator", "remove", "()V"⟩, ⟨"java/util/LinkedList$ListItr", "remove", "()V"⟩), ("java/util/PriorityQueue", ⟨"java/util/Collection", "iterator", "()Ljava/util/Iterator;"⟩, ⟨"java/util/PriorityQueue", "iterator", "()Ljava/util/Iterator;"⟩), ("java/util/PriorityQueue$Itr", ⟨"java/util/Iterator", "hasNext", "()Z"⟩, ⟨"java/util/PriorityQueue$Itr", "hasNext", "()Z"⟩), ("java/util/PriorityQueue$Itr", ⟨"java/util/Iterator", "next", "()Ljava/lang/Object;"⟩, ⟨"java/util/PriorityQueue$Itr", "next", "()Ljava/lang/Object;"⟩), ("java/util/PriorityQueue$Itr", ⟨"java/util/Iterator", "remove", "()V"⟩, ⟨"java/util/PriorityQueue$Itr", "remove", "()V"⟩), ("java/util/TreeMap", ⟨"java/util/NavigableMap", "navigableKeySet", "()Ljava/util/NavigableSet;"⟩, ⟨"java/util/TreeMap", "navigableKeySet", "()Ljava/util/NavigableSet;"⟩), ("java/util/TreeMap$KeyIterator", ⟨"java/util/Iterator", "hasNext", "()Z"⟩, ⟨"java/util/TreeMap$PrivateEntryIterator", "hasNext", "()Z"⟩), ("java/util/TreeMap$KeyIterator", ⟨"java/util/Iterator", "next", "()Ljava/lang/Object;"⟩, ⟨"java/util/TreeMap$KeyIterator", "next", "()Ljava/lang/Object;"⟩), ("java/util/TreeMap$KeyIterator", ⟨"java/util/Iterator", "remove", "()V"⟩, ⟨"java/util/TreeMap$PrivateEntryIterator", "remove", "()V"⟩), ("java/util/TreeMap$KeySet", ⟨"java/util/Collection", "iterator", "()Ljava/util/Iterator;"⟩, ⟨"java/util/TreeMap$KeySet", "iterator", "()Ljava/util/Iterator;"⟩), ("java/util/TreeMap$KeySet", ⟨"java/util/NavigableSet", "iterator", "()Ljava/util/Iterator;"⟩, ⟨"java/util/TreeMap$KeySet", "iterator", "()Ljava/util/Iterator;"⟩), ("java/util/TreeMap$ValueIterator", ⟨"java/util/Iterator", "hasNext", "()Z"⟩, ⟨"java/util/TreeMap$PrivateEntryIterator", "hasNext", "()Z"⟩), ("java/util/TreeMap$ValueIterator", ⟨"java/util/Iterator", "next", "()Ljava/lang/Object;"⟩, ⟨"java/util/TreeMap$ValueIterator", "next", "()Ljava/lang/Object;"⟩), ("java/util/TreeMap$ValueIterator", ⟨"java/util/Iterator", "remove", "()V"⟩, ⟨"java/util/TreeMap$PrivateEntryIterator", "remove", "()V"⟩), ("java/util/TreeMap$Values", ⟨"java/util/Collection", "iterator", "()Ljava/util/Iterator;"⟩, ⟨"java/util/TreeMap$Values", "iterator", "()Ljava/util/Iterator;"⟩), ("java/util/TreeSet", ⟨"java/util/Collection", "iterator", "()Ljava/util/Iterator;"⟩, ⟨"java/util/TreeSet", "iterator", "()Ljava/util/Iterator;"⟩), ("java/util/TreeSet", ⟨"java/util/NavigableSet", "iterator", "()Ljava/util/Iterator;"⟩, ⟨"java/util/TreeSet", "iterator", "()Ljava/util/Iterator;"⟩)]
def AOL : List String := ["FreightRoads$Place", "FreightRoads$Road", "java/lang/Object"]
theorem tw_warm {w : Cond} (hw : twOk w = true) {s U : State} (hW : s.WarmedH U.vm) (h : va_Nw w s) : va_Nw w U := by
  cases w <;> first | exact va_Nw.warmF hW h | exact va_Nw.warmM hW h | exact va_Nw.warmC hW h | exact va_Nw.warmD hW h | (exact absurd hw (by simp [twOk]))
theorem tw_same {w : Cond} (hw : twOk w = true) {u U : State} (hvm : u.vm = U.vm) (h : va_Nw w u) : va_Nw w U := by
  cases w <;> first | exact va_Nw.same rfl hvm h | (exact absurd hw (by simp [twOk]))
theorem fwl_ok : ∀ q ∈ FWL, q.2.1.cls ≠ "java/lang/invoke/MethodHandle" ∧ q.2.1.cls ≠ "java/lang/invoke/VarHandle" := by decide +kernel
/-- statics of whole numbers, given at the start -/
def SFL : List (String × String × String × Int32) := [("java/lang/Integer$IntegerCache", "high", "I", 127), ("java/lang/String", "COMPACT_STRINGS", "Z", 1), ("java/lang/StringUTF16", "$assertionsDisabled", "Z", 1), ("java/lang/StringUTF16", "HI_BYTE_SHIFT", "I", 0), ("java/lang/StringUTF16", "LO_BYTE_SHIFT", "I", 8), ("java/util/BitSet", "$assertionsDisabled", "Z", 1), ("java/util/ImmutableCollections", "$assertionsDisabled", "Z", 1), ("jdk/internal/misc/Unsafe", "ARRAY_BYTE_BASE_OFFSET", "I", 16), ("jdk/internal/misc/UnsafeConstants", "BIG_ENDIAN", "Z", 0), ("jdk/internal/util/ArraysSupport", "BIG_ENDIAN", "Z", 0), ("jdk/internal/util/ArraysSupport", "LOG2_ARRAY_BYTE_INDEX_SCALE", "I", 0), ("jdk/internal/util/ArraysSupport", "LOG2_ARRAY_INT_INDEX_SCALE", "I", 2), ("jdk/internal/util/ArraysSupport", "LOG2_ARRAY_LONG_INDEX_SCALE", "I", 3), ("jdk/internal/util/ArraysSupport", "LOG2_BYTE_BIT_SIZE", "I", 3)]
/-- the array classes go by their names -/
def ANM (G : GG) (U : State) : Prop := ∀ (k : Nat) (q : ClassId × FieldType), (TYS G.2.1)[k]? = some q → U.vm.findClass ("[" ++ q.2.toString) = some q.1
def SX (G : GG) (U : State) : Prop := ∃ (s0 : State) (b : Nat), s0.heap = G.2.2 ∧ s0.WarmedH U.vm ∧ (∀ w ∈ lw_tbl, w.before #[Value.ref b] s0 = true) ∧ b < s0.heap.size ∧ (Jvm.Cond.and given_1 narrow_1).before #[Value.ref b] s0 = true
def KG (G : GG) (U : State) : Prop := va_K G.1 CLs (TYS G.2.1) U ∧ (∀ w ∈ TW, va_Nw w U) ∧ (∀ q ∈ FWL, va_Fw q.1 q.2.1 q.2.2 U) ∧ (∀ C ∈ AOL, va_AO C U) ∧ (∀ q ∈ SFL, va_Z q.1 q.2.1 q.2.2.1 (.int q.2.2.2) (fun a => G.2.2.size ≤ a) U G.2.2) ∧ ANM G U ∧ SX G U
theorem SX.warm {G : GG} {u U : State} (hW : u.WarmedH U.vm) (h : SX G u) : SX G U := h.elim (fun s0 h => h.elim (fun b h => ⟨s0, b, h.1, State.WarmedH.trans h.2.1 hW, h.2.2⟩))
theorem SX.same {G : GG} {u U : State} (hvm : u.vm = U.vm) (h : SX G u) : SX G U := h.elim (fun s0 h => h.elim (fun b h => ⟨s0, b, h.1, hvm ▸ h.2.1, h.2.2⟩))
theorem KG.alike {G : GG} {u U : State} (hA : u.vm.Alike U.vm) (h0 : ∀ w ∈ TW, va_Nw w U) (h1 : SX G U) (h : KG G u) : KG G U := ⟨va_K.moved hA h.1, h0, fun q hq => va_Fw.moved (fwl_ok q hq) hA (h.2.2.1 q hq), fun C hC => va_AO.moved hA (h.2.2.2.1 C hC), fun q hq => va_Z.moved hA (h.2.2.2.2.1 q hq), fun k q hk => (hA.findClass _ none).trans (h.2.2.2.2.2.1 k q hk), h1⟩
theorem KG.warm {G : GG} {u U : State} (hW : u.WarmedH U.vm) (h : KG G u) : KG G U := KG.alike hW.alike (fun w hw => tw_warm (List.mem_filter.mp hw).2 hW (h.2.1 w hw)) (SX.warm hW h.2.2.2.2.2.2) h
theorem KG.same {G : GG} {u U : State} (hvm : u.vm = U.vm) (h : KG G u) : KG G U := KG.alike (by rw [hvm]; exact Vm.Alike.refl _) (fun w hw => tw_same (List.mem_filter.mp hw).2 hvm (h.2.1 w hw)) (SX.same hvm h.2.2.2.2.2.2) h
def WR (G : GG) (hp : HP) (H : Heap) : Prop := G.2.2.size ≤ H.size ∧ (∀ q : Nat, q < G.2.2.size → H[q]? = G.2.2[q]?) ∧ ∀ (a : Nat) (e : va_E), hp a = some e → G.2.2.size ≤ a ∧ va_at G.1 CLs (a, e) H
def LO (G : GG) (locs : List Loc) : Prop := ∀ q ∈ locs, G.2.2.size ≤ q.base
/-- the heap's cells as a list -/
def lst (hp : HP) (n : Nat) : va_W := (List.range n).filterMap (fun a => (hp a).map (fun e => (a, e)))
theorem lst_mem {hp : HP} {n : Nat} {q : Nat × va_E} (h : q ∈ lst hp n) : q.1 < n ∧ hp q.1 = some q.2 := by
  obtain ⟨a, h1, h2⟩ := List.mem_filterMap.mp h
  cases he : hp a with
  | none => rw [he] at h2; cases h2
  | some e => rw [he] at h2; cases h2; exact ⟨List.mem_range.mp h1, he⟩
theorem lst_at {hp : HP} {n a : Nat} {e : va_E} (h : hp a = some e) (ha : a < n) : ∃ q0 : Nat, (lst hp n)[q0]? = some (a, e) := by
  have h1 : (a, e) ∈ lst hp n := List.mem_filterMap.mpr ⟨a, List.mem_range.mpr ha, by rw [h]; rfl⟩
  obtain ⟨i, hi⟩ := List.getElem?_of_mem h1
  exact ⟨i, hi⟩
theorem lst_lt {hp : HP} {n : Nat} : (lst hp n).Pairwise (fun p q => p.1 < q.1) := by
  refine List.Pairwise.filterMap _ ?_ List.pairwise_lt_range
  intro a b hab p hp1 q hq1
  cases ha : hp a with
  | none => rw [ha] at hp1; cases hp1
  | some e =>
    cases hb : hp b with
    | none => rw [hb] at hq1; cases hq1
    | some e2 =>
      rw [ha] at hp1; rw [hb] at hq1
      cases hp1; cases hq1
      exact hab
theorem lst_inj {hp : HP} {n i j : Nat} {p q : Nat × va_E} (hi : (lst hp n)[i]? = some p) (hj : (lst hp n)[j]? = some q) (h : p.1 = q.1) : i = j := by
  have hl := List.pairwise_iff_getElem.mp (lst_lt (hp := hp) (n := n))
  obtain ⟨i1, i2⟩ := List.getElem?_eq_some_iff.mp hi
  obtain ⟨j1, j2⟩ := List.getElem?_eq_some_iff.mp hj
  rcases Nat.lt_trichotomy i j with g | g | g
  · have := hl i j i1 j1 g
    rw [i2, j2] at this
    omega
  · exact g
  · have := hl j i j1 i1 g
    rw [i2, j2] at this
    omega
theorem WR.lt {G : GG} {hp : HP} {H : Heap} (h : WR G hp H) {a : Nat} {e : va_E} (ha : hp a = some e) : a < H.size := (h.2.2 a e ha).2.lt
theorem WR.P {G : GG} {hp : HP} {H : Heap} (h : WR G hp H) : va_P G.1 CLs (lst hp H.size) H := fun _ q hq => (h.2.2 q.1 q.2 (lst_mem (List.mem_of_getElem? hq)).2).2
theorem WR.D {G : GG} {hp : HP} {H : Heap} (h : WR G hp H) : va_D (fun q => G.2.2.size ≤ q) (lst hp H.size) := ⟨fun _ _ _ _ hi hj e => lst_inj hi hj e, fun _ q hq => (h.2.2 q.1 q.2 (lst_mem (List.mem_of_getElem? hq)).2).1⟩
theorem WR.S {G : GG} {hp : HP} {H : Heap} {locs : List Loc} (h : WR G hp H) (hl : LO G locs) : va_S (fun q => G.2.2.size ≤ q) G.2.2 H locs := ⟨h.1, fun q h1 _ => h.2.1 q h1, hl⟩
theorem WR.one {G : GG} {hp : HP} {H : Heap} (h : WR G hp H) {a : Nat} {e : va_E} (ha : hp a = some e) : va_P G.1 CLs [(a, e)] H := by
  intro k q hk
  have hz : k < 1 := (List.getElem?_eq_some_iff.mp hk).1
  rw [show k = 0 by omega] at hk
  cases hk
  exact (h.2.2 a e ha).2
theorem WR.set {G : GG} {hp : HP} {H H1 : Heap} {locs1 : List Loc} (h : WR G hp H) {a q0 : Nat} {e e1 : va_E} (h0 : (lst hp H.size)[q0]? = some (a, e)) (hP : va_P G.1 CLs ((lst hp H.size).set q0 (a, e1)) H1) (hS : va_S (fun q => G.2.2.size ≤ q) G.2.2 H1 locs1) : WR G (hup hp a e1) H1 ∧ LO G locs1 := by
  refine ⟨⟨hS.1, fun q hq => hS.2.1 q hq (fun z => absurd z (Nat.not_le.mpr hq)), fun b e2 hb => ?_⟩, hS.2.2⟩
  by_cases hba : b = a
  · subst hba
    simp only [hup, if_true] at hb
    cases hb
    have hl : q0 < (lst hp H.size).length := (List.getElem?_eq_some_iff.mp h0).1
    refine ⟨(h.2.2 b e (lst_mem (List.mem_of_getElem? h0)).2).1, hP q0 (b, e1) ?_⟩
    rw [List.getElem?_set_self hl]
  · simp only [hup, if_neg hba] at hb
    obtain ⟨q1, h1⟩ := lst_at hb (h.lt hb)
    refine ⟨(h.2.2 b e2 hb).1, hP q1 (b, e2) ?_⟩
    have hne : q0 ≠ q1 := by
      intro g
      rw [g] at h0
      rw [h0] at h1
      cases h1
      exact hba rfl
    rw [List.getElem?_set_ne hne]
    exact h1
theorem WR.push {G : GG} {hp : HP} {H H1 : Heap} {locs1 : List Loc} (h : WR G hp H) {q : Nat} {e1 : va_E} (hP : va_P G.1 CLs (lst hp H.size ++ [(q, e1)]) H1) (hD : va_D (fun q => G.2.2.size ≤ q) (lst hp H.size ++ [(q, e1)])) (hS : va_S (fun q => G.2.2.size ≤ q) G.2.2 H1 locs1) : hp q = none ∧ WR G (hup hp q e1) H1 ∧ LO G locs1 := by
  have hlast : (lst hp H.size ++ [(q, e1)])[(lst hp H.size).length]? = some (q, e1) := by simp
  have hn : hp q = none := by
    cases hq : hp q with
    | none => rfl
    | some e =>
      obtain ⟨q1, h1⟩ := lst_at hq (h.lt hq)
      have hl : q1 < (lst hp H.size).length := (List.getElem?_eq_some_iff.mp h1).1
      have h2 : (lst hp H.size ++ [(q, e1)])[q1]? = some (q, e) := by rw [List.getElem?_append_left hl]; exact h1
      have := hD.1 q1 _ _ _ h2 hlast rfl
      omega
  refine ⟨hn, ⟨hS.1, fun r hr => hS.2.1 r hr (fun z => absurd z (Nat.not_le.mpr hr)), fun b e2 hb => ?_⟩, hS.2.2⟩
  by_cases hba : b = q
  · subst hba
    simp only [hup, if_true] at hb
    cases hb
    exact ⟨hD.2 _ _ hlast, hP _ _ hlast⟩
  · simp only [hup, if_neg hba] at hb
    obtain ⟨q1, h1⟩ := lst_at hb (h.lt hb)
    have hl : q1 < (lst hp H.size).length := (List.getElem?_eq_some_iff.mp h1).1
    exact ⟨(h.2.2 b e2 hb).1, hP q1 (b, e2) (by rw [List.getElem?_append_left hl]; exact h1)⟩
