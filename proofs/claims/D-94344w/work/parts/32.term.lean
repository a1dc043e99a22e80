/-! terms: what 'of' asks of the tables, its contract by the term's class -/
def LC_23c (Δ : DT) (a : Nat) : Nat := (Δ 23 a).getD 0
theorem ok23 {Δ : DT} {a x : Nat} (h : Δ 23 a = some x) : okC Δ 23 a 0 = true := by
  show ((Δ 23 a).isSome && decide (0 = 0)) = true
  rw [h]; rfl
theorem LC_23 {Δ : DT} {a b x : Nat} (h : Δ 23 a = some x) : LC Δ 23 a b = .inr (sp23 x) := by
  show Sum.inr (sp23 ((Δ 23 a).getD 0)) = _
  rw [h]; rfl
theorem lw_F {own : String} {idx : Nat} {C : String} {x y : MethodName} {b : ByteArray} {L : Nat} {r : Option FieldType} (h1 : Cond.methodLink own idx x ∈ lw_all) (h2 : Cond.selects C x y ∈ lw_all) (h3 : Cond.instanceMethod y ∈ lw_all) (h4 : Cond.initialized y.cls ∈ lw_all) (h5 : Cond.code y b L r ∈ lw_all) : GoodIn lw_all (va_wsF own idx C x y (ws_ y b L r)) := by
  refine lw_app ?_ (lw_meth h5)
  intro w hw
  simp only [List.mem_cons, List.not_mem_nil, or_false] at hw
  rcases hw with e | e | e | e
  · rw [e]; exact h1
  · rw [e]; exact h2
  · rw [e]; exact h3
  · rw [e]; exact h4
theorem lw_U {own : String} {idx : Nat} {C owner : String} {x y : MethodName} {b : ByteArray} {L : Nat} {r : Option FieldType} (h1 : Cond.methodLink own idx x ∈ lw_all) (h0 : Cond.sameMethod x.cls owner x.name x.desc ∈ lw_all) (h2 : Cond.selects C x y ∈ lw_all) (h3 : Cond.instanceMethod y ∈ lw_all) (h4 : Cond.initialized y.cls ∈ lw_all) (h5 : Cond.code y b L r ∈ lw_all) : GoodIn lw_all (va_wsU own idx C owner x y (ws_ y b L r)) := by
  refine lw_app ?_ (lw_meth h5)
  intro w hw
  simp only [List.mem_cons, List.not_mem_nil, or_false] at hw
  rcases hw with e | e | e | e | e
  · rw [e]; exact h1
  · rw [e]; exact h0
  · rw [e]; exact h2
  · rw [e]; exact h3
  · rw [e]; exact h4
abbrev yTerm_of : MethodName := ⟨"NotchSticks$Term", "of", "(LNotchSticks$Asker;)I"⟩
theorem hdF_fact : (("NotchSticks$Asker" ≠ "java/lang/invoke/MethodHandle" ∧ "NotchSticks$Asker" ≠ "java/lang/invoke/VarHandle" ∧ (parseMethodDescriptor "(I)I").map (fun d => d.parameters.length) = some 1)) := by decide +kernel
theorem hdU_of : (("NotchSticks$Term" ≠ "java/lang/invoke/MethodHandle" ∧ "NotchSticks$Term" ≠ "java/lang/invoke/VarHandle" ∧ (parseMethodDescriptor "(LNotchSticks$Asker;)I").map (fun d => d.parameters.length) = some 1)) := by decide +kernel
abbrev XMo (l : Launch) (D : va_G) (d : Nat → ClassId) (hs : IX) (Δ : DT) (va vb dd : Nat) (σ : ST) (t : Nat) (z : ST × Int32) (y : MethodName) (cc : ByteArray) (nL : Nat) : Prop := XM l D d EN y cc nL (some .int) dd 0 0 [.ref (hC hs 23 t 0), .ref (hC hs 2 va vb)] (hC hs) (xct (LC Δ) (okC Δ) (hC hs) d σ) (Qi D (pz z) (cw (hC hs) (LC Δ) (okC Δ) d))
def TMet (l : Launch) (D : va_G) (d : Nat → ClassId) (hs : IX) (Δ : DT) (va vb dd : Nat) (σ : ST) (t : Nat) (z : ST × Int32) : Prop :=
  (Δ 23 t = some 8 ∧ XMo l D d hs Δ va vb dd σ t z yX10_of cX10_of 2) ∨ (Δ 23 t = some 9 ∧ XMo l D d hs Δ va vb dd σ t z yX11_of cX11_of 2) ∨ (Δ 23 t = some 10 ∧ XMo l D d hs Δ va vb dd σ t z yX12_of cX12_of 2) ∨ (Δ 23 t = some 11 ∧ XMo l D d hs Δ va vb dd σ t z yX13_of cX13_of 4)
theorem x_term {p : Program} {l : Launch} {e : Env} {s : State} {m : MethodId} {args : Array Value} {below : List Frame} {meth : Method} {c : Code} {H : Heap} {locs : List Loc} {Q : State → Prop} {cc : ByteArray} {nL : Nat} {ret : Option FieldType} {own : String} {pc : Nat} {ls : Array Slot} {rest : List Value} {D : va_G} {A : Nat → Prop} {hs : IX} {d : Nat → ClassId} {Δ : DT} {σ σ1 : ST} {va vb dd dd' t idx : Nat} {r1 : Int32} (X : FX p m c meth s args own cc nL ret) (K : XK D d A s) (O : XH D A s.heap (hC hs) (xct (LC Δ) (okC Δ) (hC hs) d σ) H locs) (hl : Cond.methodLink own idx yTerm_of ∈ lw_all) (hT : TMet l D d hs Δ va vb dd' σ t (σ1, r1)) (hdd : dd' < dd) (hsize : ls.size = nL) (hW : (rest.map fun v => v.category).sum ≤ 8) (hdg : decode cc pc = .ok (.invokevirtual idx, 3))
    (kk : ∀ (H1 : Heap) (locs1 : List Loc), XH D A s.heap (hC hs) (xct (LC Δ) (okC Δ) (hC hs) d σ1) H1 locs1 → W p l e (rmD dd 0 0) s m args below meth c H1 locs1 0 0 Q (F0 m (pc + 3) ls (.int r1 :: rest))) : W p l e (rmD dd 0 0) s m args below meth c H locs 0 0 Q (F0 m pc ls (.ref (hC hs 2 va vb) :: .ref (hC hs 23 t 0) :: rest)) := by
  rcases hT with ⟨hk, hM⟩ | ⟨hk, hM⟩ | ⟨hk, hM⟩ | ⟨hk, hM⟩
  · exact x_calli (x_runU (As := [.ref (hC hs 2 va vb)]) (rest := rest) X K O (xct_obj (ok23 hk) (LC_23 hk)) rfl hM EN_b EN_h (lw_U (owner := "NotchSticks$Term") hl q836 q868 q863 q134 q864) q835 1 rfl hsize hW hdU_of ⟨hdd, by decide⟩ ⟨Nat.le_refl _, Nat.le_refl _⟩ hdg) (fun r u H1 locs1 hp O _ => by cases hp; exact kk H1 locs1 O)
  · exact x_calli (x_runU (As := [.ref (hC hs 2 va vb)]) (rest := rest) X K O (xct_obj (ok23 hk) (LC_23 hk)) rfl hM EN_b EN_h (lw_U (owner := "NotchSticks$Term") hl q836 q866 q858 q135 q859) q835 1 rfl hsize hW hdU_of ⟨hdd, by decide⟩ ⟨Nat.le_refl _, Nat.le_refl _⟩ hdg) (fun r u H1 locs1 hp O _ => by cases hp; exact kk H1 locs1 O)
  · exact x_calli (x_runU (As := [.ref (hC hs 2 va vb)]) (rest := rest) X K O (xct_obj (ok23 hk) (LC_23 hk)) rfl hM EN_b EN_h (lw_U (owner := "NotchSticks$Term") hl q836 q837 q838 q136 q839) q835 1 rfl hsize hW hdU_of ⟨hdd, by decide⟩ ⟨Nat.le_refl _, Nat.le_refl _⟩ hdg) (fun r u H1 locs1 hp O _ => by cases hp; exact kk H1 locs1 O)
  · exact x_calli (x_runU (As := [.ref (hC hs 2 va vb)]) (rest := rest) X K O (xct_obj (ok23 hk) (LC_23 hk)) rfl hM EN_b EN_h (lw_U (owner := "NotchSticks$Term") hl q836 q867 q860 q137 q861) q835 1 rfl hsize hW hdU_of ⟨hdd, by decide⟩ ⟨Nat.le_refl _, Nat.le_refl _⟩ hdg) (fun r u H1 locs1 hp O _ => by cases hp; exact kk H1 locs1 O)
