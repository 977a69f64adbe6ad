set_option maxRecDepth 100000
/-- the texts of the constants: bytes, hash -/
def g_str : List (List Int32 × Int32) := [([112, 97, 114, 116, 121], 106437350), ([107, 105, 110, 100], 3292052), ([116, 114, 97, 100, 101], 110621028), ([107, 101, 101, 112], 3287941), ([99, 97, 112], 98258), ([109, 111, 100, 101], 3357091), ([32], 32), ([32, 42], 1034), ([32, 112, 97, 114, 116, 121, 32, 107, 105, 110, 100, 32, 116, 114, 97, 100, 101, 32, 107, 101, 101, 112, 32, 99, 97, 112, 32, 109, 111, 100, 101, 32], (-261392222))]
/-- which entry of which class is which text -/
def g_ref : List (String × Nat × String × Nat) := [("SwapPress$Reader", 156, "party", 0), ("SwapPress$Reader", 161, "kind", 1), ("SwapPress$Reader", 163, "trade", 2), ("SwapPress$Reader", 165, "keep", 3), ("SwapPress$Reader", 167, "cap", 4), ("SwapPress$Reader", 168, "mode", 5), ("SwapPress", 91, "party", 0), ("SwapPress", 97, "kind", 1), ("SwapPress", 99, "trade", 2), ("SwapPress", 101, "keep", 3), ("SwapPress", 103, "cap", 4), ("SwapPress", 104, "mode", 5), ("SwapPress", 357, " ", 6), ("SwapPress", 366, " *", 7), ("SwapPressModel", 122, " party kind trade keep cap mode ", 8)]
def g_zi : List (String × String × String × Int32) := [("java/lang/String", "COMPACT_STRINGS", "Z", 1), ("java/lang/StringUTF16", "$assertionsDisabled", "Z", 1), ("java/lang/StringUTF16", "HI_BYTE_SHIFT", "I", 0), ("java/lang/StringUTF16", "LO_BYTE_SHIFT", "I", 8)]
def g_zq : List (String × String × String) := [("jdk/internal/util/Preconditions", "SIOOBE_FORMATTER", "Ljava/util/function/BiFunction;"), ("java/lang/Throwable", "UNASSIGNED_STACK", "[Ljava/lang/StackTraceElement;"), ("java/lang/Throwable", "SUPPRESSED_SENTINEL", "Ljava/util/List;")]
/-- a static of which nothing is known: null, or some place -/
def g_oq (n : Nat) : Option Nat := match n with
  | 0 => none
  | k + 1 => some k
def g_ones : Nat → Int32 := fun j => nI (48 + j % 10)
def g_tens : Nat → Int32 := fun j => nI (48 + j / 10)
/-- a text that nobody changes: a String at a, its bytes at b -/
def g_S (a b : Nat) (bs : List Int32) (hs : Int32) (A : Nat → Prop) (U : State) (H : Heap) : Prop := va_O "java/lang/String" a A U H ∧ va_OF "java/lang/String" "coder" "B" (.int 0) a A U H ∧ va_OF "java/lang/String" "value" "[B" (.ref b) a A U H ∧ va_OF "java/lang/String" "hash" "I" (.int hs) a A U H ∧ va_OF "java/lang/String" "hashIsZero" "Z" (.int 0) a A U H ∧ va_T .byte b bs.length (fun j => .int (bs.getD j 0)) A U H
/-- what holds all through: the constants' texts at G (10 + i), G (30 + i); statics -/
def g_E (G : Nat → Nat) (A : Nat → Prop) (U : State) (H : Heap) : Prop :=
  (∀ (i : Nat) (q : List Int32 × Int32), g_str[i]? = some q → g_S (G (10 + i)) (G (30 + i)) q.1 q.2 A U H) ∧
  (∀ r ∈ g_ref, vk_R r.1 r.2.1 r.2.2.1 (G (10 + r.2.2.2)) U) ∧
  (∀ r ∈ g_zi, va_Z r.1 r.2.1 r.2.2.1 (.int r.2.2.2) A U H) ∧
  (∀ (i : Nat) (r : String × String × String), g_zq[i]? = some r → va_Z r.1 r.2.1 r.2.2 (va_rf (g_oq (G (60 + i)))) A U H) ∧
  (va_Z "java/util/ArrayList" "DEFAULTCAPACITY_EMPTY_ELEMENTDATA" "[Ljava/lang/Object;" (.ref (G 0)) A U H ∧ va_T (.object "java/lang/Object") (G 0) 0 (fun _ => .null) A U H) ∧
  (va_Z "java/lang/Integer" "DigitOnes" "[B" (.ref (G 50)) A U H ∧ va_T .byte (G 50) 100 (fun j => .int (g_ones j)) A U H) ∧
  (va_Z "java/lang/Integer" "DigitTens" "[B" (.ref (G 51)) A U H ∧ va_T .byte (G 51) 100 (fun j => .int (g_tens j)) A U H) ∧
  (va_Z "jdk/internal/util/ArraysSupport" "JLA" "Ljdk/internal/access/JavaLangAccess;" (.ref (G 52)) A U H ∧ va_O "java/lang/System$2" (G 52) A U H) ∧
  ((∀ i j : Nat, i < 9 → j < 9 → G (10 + i) = G (10 + j) → i = j) ∧ va_Mi "[Ljava/lang/Object;" (G 54) U ∧ va_O "[Ljava/lang/Object;" (G 0) A U H) ∧ g_N U
theorem g_S.kept {a b : Nat} {bs : List Int32} {hs : Int32} {A : Nat → Prop} {U : State} {H H1 : Heap} (h : g_S a b bs hs A U H) (hq : ∀ a : Nat, a < H.size → ¬ A a → H1[a]? = H[a]?) : g_S a b bs hs A U H1 := ⟨h.1.kept hq, h.2.1.kept hq, h.2.2.1.kept hq, h.2.2.2.1.kept hq, h.2.2.2.2.1.kept hq, h.2.2.2.2.2.kept hq⟩
theorem g_S.moved {a b : Nat} {bs : List Int32} {hs : Int32} {A : Nat → Prop} {u U : State} {H : Heap} (hv : u.vm.Alike U.vm) (h : g_S a b bs hs A u H) : g_S a b bs hs A U H := ⟨h.1.moved hv, h.2.1.moved hv, h.2.2.1.moved hv, h.2.2.2.1.moved hv, h.2.2.2.2.1.moved hv, h.2.2.2.2.2.moved hv⟩
theorem g_S.narrow {a b : Nat} {bs : List Int32} {hs : Int32} {A B : Nat → Prop} {U : State} {H : Heap} (h : g_S a b bs hs A U H) (hA : ∀ q, B q → A q) : g_S a b bs hs B U H := ⟨h.1.narrow hA, h.2.1.narrow hA, h.2.2.1.narrow hA, h.2.2.2.1.narrow hA, h.2.2.2.2.1.narrow hA, h.2.2.2.2.2.narrow hA⟩
theorem g_E.kept {G : Nat → Nat} {A : Nat → Prop} {U : State} {H H1 : Heap} (h : g_E G A U H) (hq : ∀ a : Nat, a < H.size → ¬ A a → H1[a]? = H[a]?) : g_E G A U H1 := ⟨fun i q e => (h.1 i q e).kept hq, h.2.1, fun r e => (h.2.2.1 r e).kept hq, fun i r e => (h.2.2.2.1 i r e).kept hq, ⟨h.2.2.2.2.1.1.kept hq, h.2.2.2.2.1.2.kept hq⟩, ⟨h.2.2.2.2.2.1.1.kept hq, h.2.2.2.2.2.1.2.kept hq⟩, ⟨h.2.2.2.2.2.2.1.1.kept hq, h.2.2.2.2.2.2.1.2.kept hq⟩, ⟨h.2.2.2.2.2.2.2.1.1.kept hq, h.2.2.2.2.2.2.2.1.2.kept hq⟩, ⟨h.2.2.2.2.2.2.2.2.1.1, h.2.2.2.2.2.2.2.2.1.2.1, h.2.2.2.2.2.2.2.2.1.2.2.kept hq⟩, h.2.2.2.2.2.2.2.2.2⟩
theorem g_E.narrow {G : Nat → Nat} {A B : Nat → Prop} {U : State} {H : Heap} (h : g_E G A U H) (hA : ∀ q, B q → A q) : g_E G B U H := ⟨fun i q e => (h.1 i q e).narrow hA, h.2.1, fun r e => (h.2.2.1 r e).narrow hA, fun i r e => (h.2.2.2.1 i r e).narrow hA, ⟨h.2.2.2.2.1.1.narrow hA, h.2.2.2.2.1.2.narrow hA⟩, ⟨h.2.2.2.2.2.1.1.narrow hA, h.2.2.2.2.2.1.2.narrow hA⟩, ⟨h.2.2.2.2.2.2.1.1.narrow hA, h.2.2.2.2.2.2.1.2.narrow hA⟩, ⟨h.2.2.2.2.2.2.2.1.1.narrow hA, h.2.2.2.2.2.2.2.1.2.narrow hA⟩, ⟨h.2.2.2.2.2.2.2.2.1.1, h.2.2.2.2.2.2.2.2.1.2.1, h.2.2.2.2.2.2.2.2.1.2.2.narrow hA⟩, h.2.2.2.2.2.2.2.2.2⟩
theorem g_E.moved {G : Nat → Nat} {A : Nat → Prop} {u U : State} {H : Heap} (hv : u.vm.Alike U.vm) (hN : g_N U) (hR : ∀ r ∈ g_ref, vk_R r.1 r.2.1 r.2.2.1 (G (10 + r.2.2.2)) U) (h : g_E G A u H) : g_E G A U H := ⟨fun i q e => (h.1 i q e).moved hv, hR, fun r e => (h.2.2.1 r e).moved hv, fun i r e => (h.2.2.2.1 i r e).moved hv, ⟨h.2.2.2.2.1.1.moved hv, h.2.2.2.2.1.2.moved hv⟩, ⟨h.2.2.2.2.2.1.1.moved hv, h.2.2.2.2.2.1.2.moved hv⟩, ⟨h.2.2.2.2.2.2.1.1.moved hv, h.2.2.2.2.2.2.1.2.moved hv⟩, ⟨h.2.2.2.2.2.2.2.1.1.moved hv, h.2.2.2.2.2.2.2.1.2.moved hv⟩, ⟨h.2.2.2.2.2.2.2.2.1.1, h.2.2.2.2.2.2.2.2.1.2.1.moved hv, h.2.2.2.2.2.2.2.2.1.2.2.moved hv⟩, hN⟩
theorem g_E.warm {G : Nat → Nat} {A : Nat → Prop} {s U : State} {H : Heap} (hW : s.WarmedH U.vm) (h : g_E G A s H) : g_E G A U H := h.moved hW.alike (h.2.2.2.2.2.2.2.2.2.warm hW) (fun r e => (h.2.1 r e).warm hW)
/-- at a call: from the caller's ground to the callee's start -/
theorem g_E.go {G : Nat → Nat} {A B : Nat → Prop} {s U : State} {H : Heap} {locs : List Loc} (h : g_E G A s s.heap) (hS : va_S A s.heap H locs) (hAB : ∀ q, B q → A q) (hW : s.WarmedH U.vm) (hU : U.heap = H) : g_E G B U U.heap := by
  rw [hU]
  exact (((h.kept hS.2.1).narrow hAB)).warm hW
theorem g_E.calling {G : Nat → Nat} {A : Nat → Prop} {U : State} {H : Heap} {g : JFrame} {mk : MethodId} {a : Array Value} (h : g_E G A U H) : g_E G A (U.calling g mk a) H := h.moved (Vm.Alike.refl U.vm) (h.2.2.2.2.2.2.2.2.2.same rfl) (fun r e => (h.2.1 r e).same rfl)
