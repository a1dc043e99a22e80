/-! strings, statics: what the readers of texts hold of cells that nobody writes; the string constants' length and charAt -/
def lenT : List Nat := [4, 2, 3, 3, 4, 6, 5, 4, 4, 3, 4, 4, 5, 5, 7, 6, 5, 4, 6, 7, 5, 3]
def bytT : List (List Int32) := [[119, 104, 101, 110], [111, 114], [97, 110, 100], [110, 111, 116], [107, 101, 112, 116], [98, 114, 111, 107, 101, 110], [108, 97, 114, 103, 101], [108, 111, 115, 116], [115, 105, 122, 101], [97, 103, 101], [121, 101, 97, 114], [100, 101, 97, 108], [98, 114, 101, 97, 107], [111, 107, 101, 112, 116], [111, 98, 114, 111, 107, 101, 110], [111, 108, 97, 114, 103, 101], [111, 108, 111, 115, 116], [111, 97, 103, 101], [108, 97, 119, 102, 117, 108], [111, 108, 97, 119, 102, 117, 108], [112, 117, 114, 115, 101], [109, 97, 121]]
def sxT : List (Nat × String) := [(50, "when"), (56, "or"), (58, "and"), (60, "not"), (62, "kept"), (64, "broken"), (66, "large"), (68, "lost"), (70, "size"), (72, "age"), (74, "year"), (76, "deal"), (78, "break"), (80, "okept"), (82, "obroken"), (84, "olarge"), (86, "olost"), (88, "oage"), (90, "lawful"), (92, "olawful"), (94, "purse"), (102, "may")]
def ES (adK adV : Nat → Nat) (e0 : Nat) : XE := fun A U => vk_S 22 lenT bytT adK adV A U U.heap ∧ (∀ (i : Nat) (q : Nat × String), sxT[i]? = some q → vk_R "NotchSticks$Reader" q.1 q.2 (adK i) U) ∧ va_Z "java/lang/String" "COMPACT_STRINGS" "Z" (.int 1) A U U.heap ∧ va_Zq "jdk/internal/util/Preconditions" "SIOOBE_FORMATTER" "Ljava/util/function/BiFunction;" A U U.heap ∧ vx_Zq Bundle.tN "UNASSIGNED_STACK" Bundle.steD A U U.heap ∧ vx_Zq Bundle.tN "SUPPRESSED_SENTINEL" Bundle.listD A U U.heap ∧ va_Z "java/util/ArrayList" "DEFAULTCAPACITY_EMPTY_ELEMENTDATA" "[Ljava/lang/Object;" (.ref e0) A U U.heap ∧ va_T (.object "java/lang/Object") e0 0 (fun _ => .null) A U U.heap ∧ va_Mi "[Ljava/lang/Object;" (adK 22) U
theorem ES_h {adK adV : Nat → Nat} {e0 : Nat} {A : Nat → Prop} {H : Heap} {s : State} {locs : List Loc} (hE : ES adK adV e0 A s) : ∀ (B : Nat → Prop) (U : State), (∀ q, B q → A q) → U.heap = H → s.WarmedH U.vm → va_S A s.heap H locs → ES adK adV e0 B U := by
  intro B U hB hU hW hS
  obtain ⟨h1, h2, h3, h4, h5, h6, h7, h8, h9⟩ := hE
  have e := hS.2.1
  unfold ES
  rw [hU]
  exact ⟨((h1.kept e).narrow hB).moved hW.alike, fun i q hq => (h2 i q hq).warm hW, ((h3.kept e).narrow hB).moved hW.alike, ((h4.kept e).narrow hB).moved hW.alike, ((h5.kept e).narrow hB).moved hW.alike, ((h6.kept e).narrow hB).moved hW.alike, ((h7.kept e).narrow hB).moved hW.alike, ((h8.kept e).narrow hB).moved hW.alike, h9.moved hW.alike⟩
theorem ES_b {adK adV : Nat → Nat} {e0 : Nat} : ∀ (B : Nat → Prop) (U : State) (g : JFrame) (mk : MethodId) (a : Array Value), ES adK adV e0 B U → ES adK adV e0 B (U.calling g mk a) := by
  intro B U g mk a ⟨h1, h2, h3, h4, h5, h6, h7, h8, h9⟩
  have r := Vm.Alike.refl U.vm
  exact ⟨vk_S.moved r h1, fun i q hq => (h2 i q hq).same rfl, va_Z.moved r h3, va_Zq.moved r h4, vx_Zq.moved r h5, vx_Zq.moved r h6, va_Z.moved r h7, va_T.moved r h8, va_Mi.moved r h9⟩
