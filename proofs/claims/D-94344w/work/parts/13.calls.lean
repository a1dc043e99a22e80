/-! CONTRACTS over a world laid by tags, and calls by them -/
def rmD (dd mc ms : Nat) : Room := { frames := dd, cells := mc, slots := ms, locals := 60 * dd }
abbrev XE : Type := (Nat → Prop) → State → Prop
def EN : XE := fun _ _ => True
def XPre (D : va_G) (d : Nat → ClassId) (h : IX) (ct : CT) (E : XE) (ws : va_W) (sz : Nat) : State → Prop := fun U => U.heap.size = sz ∧ va_P D vwCl ws U.heap ∧ va_D (fun _ => True) ws ∧ (∃ ix : IX, xRel h ix ct ws) ∧ va_K D vwCl (tysOf d) U ∧ NW U ∧ E (va_A ws sz) U
def XPo (D : va_G) (A : Nat → Prop) (w : IX × CT) : State → Prop := fun t => ∃ (ws' : va_W) (ix : IX), va_P D vwCl ws' t.heap ∧ va_D A ws' ∧ xRel w.1 ix w.2 ws'
def XM (l : Launch) (D : va_G) (d : Nat → ClassId) (E : XE) (y : MethodName) (cc : ByteArray) (nL : Nat) (ret : Option FieldType) (dd mc ms : Nat) (av : List Value) (h : IX) (ct : CT) (Qf : (Nat → Prop) → Array Value → State → Outcome → State → Prop) : Prop :=
  ∀ (ws : va_W) (sz : Nat), Met l y (ws_ y cc nL ret) (rmD dd mc ms) (va_Pc av (XPre D d h ct E ws sz)) (Qf (va_A ws sz)) mc ms (va_A ws sz)
def Qi {S : Type} (D : va_G) (post : Int32 → S → Prop) (cto : S → IX × CT) : (Nat → Prop) → Array Value → State → Outcome → State → Prop := fun A => va_Qi post (fun u t => XPo D A (cto u) t) A
def Ql {S : Type} (D : va_G) (post : Int64 → S → Prop) (cto : S → IX × CT) : (Nat → Prop) → Array Value → State → Outcome → State → Prop := fun A => va_Ql post (fun u t => XPo D A (cto u) t) A
def Qv {S : Type} (D : va_G) (post : S → Prop) (cto : S → IX × CT) : (Nat → Prop) → Array Value → State → Outcome → State → Prop := fun A => va_Qv post (fun u t => XPo D A (cto u) t) A
def Qr {S : Type} (D : va_G) (post : Nat → S → Prop) (cto : S → IX × CT) : (Nat → Prop) → Array Value → State → Outcome → State → Prop := fun A => va_Qr (fun _ : S => True) (fun u a t => post a u ∧ XPo D A (cto u) t) A
theorem x_ofW {l : Launch} {y : MethodName} {ws ws' : List Cond} {rm : Room} {Pc : Array Value → State → Prop} {Qc : Array Value → State → Outcome → State → Prop} {mc ms : Nat} {free : Addr → Prop} {cc : ByteArray} {maxL : Nat} {ret : Option FieldType} (hy : plainFor y = true) (hw : ws = Cond.code y cc maxL ret :: ws')
    (body : ∀ p e s m args below meth c s₁, BodyLoose p l y (headSpec ws rm) cc maxL ret e s m args below meth c s₁ → c.maxLocals = maxL → Pc args s →
      W p l e (headSpec ws rm).room s m args below meth c s.heap [] 0 0 (MQ below Qc args s mc ms free) (entryFrame m args maxL)) : Met l y ws rm Pc Qc mc ms free := by
  refine MetFree.of_bodySF (code := cc) (maxLocals := maxL) (ret := ret) hy ?_ ?_
  · intro args s m h hn
    obtain ⟨meth, c, h1, h2, h3, h4, h5, h6, -, -⟩ := Cond.code_spec hn (atoms_spec (ws := ws) h _ (by rw [hw]; exact List.mem_cons_self))
    exact ⟨meth, c, h1, h2, h3, h4, h5, h6⟩
  · intro p e s m args below meth c s₁ B hml hP _
    have hh0 : s₁.heap = s.heap := by rw [B.state]; rfl
    obtain ⟨t, a1, o, b1, b2, b3⟩ := body p e s m args below meth c s₁ B hml hP s₁ hh0 (Stand.of_body B)
    exact ⟨t, o, a1, b1, b2, ⟨b3.1, b3.2⟩⟩
/-- a contract out of a walk of the body -/
theorem XM.of {l : Launch} {D : va_G} {d : Nat → ClassId} {E : XE} {y : MethodName} {cc : ByteArray} {nL : Nat} {ret : Option FieldType} {dd mc ms : Nat} {av : List Value} {h : IX} {ct : CT} {Qf : (Nat → Prop) → Array Value → State → Outcome → State → Prop} (hy : plainFor y = true) (hn : (lg_sl av).length ≤ nL)
    (body : ∀ (p : Program) (e : Env) (s : State) (m : MethodId) (below : List Frame) (meth : Method) (c : Code) (A : Nat → Prop) (ls : Array Slot), FX p m c meth s av.toArray y.cls cc nL ret → (name_ok : y.name = meth.name) → XK D d A s → E A s → XH D A s.heap h ct s.heap [] → lv_has ls nL (lv_args 0 av) → W p l e (rmD dd mc ms) s m av.toArray below meth c s.heap [] 0 0 (MQ below (Qf A) av.toArray s mc ms A) (F0 m 0 ls [])) : XM l D d E y cc nL ret dd mc ms av h ct Qf := by
  intro ws sz
  refine x_ofW (cc := cc) (maxL := nL) (ret := ret) hy rfl ?_
  intro p e s m args below meth c s₁ B hml hv
  obtain ⟨rfl, hsz, hP, hD, ⟨ix, r⟩, hK, hNW, hE⟩ := hv
  have hts := atoms_spec (ws := ws_ y cc nL ret) B.pre
  have hts : ∀ w ∈ lw_all, w.before _ s = true := fun w h => hts w (List.mem_cons_of_mem _ h)
  have hown : s.vm.findClass y.cls = some m.cls := findClass_of_methodNamed B.named
  have hin : meth.name = y.name := (name_of_methodNamed B.named B.method).1
  subst hsz
  have hl := lv_entry av (n := nL) hn
  rw [lg_entry_eq]
  exact body p e s m below meth c (va_A ws s.heap.size) _ ⟨⟨B.exec, B.bytes, hml, hown, hts⟩, B.returns, B.notSynchronized⟩ hin.symm ⟨hK, hNW, fun q hq => Or.inr hq⟩ hE ⟨ws, ix, hP, hD.self, va_S.rf, r⟩ hl
section XC
variable {p : Program} {l : Launch} {e : Env} {s : State} {m : MethodId} {args : Array Value} {below : List Frame} {meth : Method} {c : Code} {H : Heap} {locs : List Loc} {cells slots : Nat} {Q : State → Prop}
variable {cc : ByteArray} {nL : Nat} {ret : Option FieldType} {own : String} {pc : Nat} {ls : Array Slot} {rest : List Value} {D : va_G} {A : Nat → Prop} {h : IX} {d : Nat → ClassId}
theorem x_iret {R : Room} (X : FX p m c meth s args own cc nL ret) {ct : CT} (O : XH D A s.heap h ct H locs) {S : Type} {post : Int32 → S → Prop} {cto : S → IX × CT} (hret : ret = some .int) {v : Int32} (u : S) (hp : post v u) (hct : cto u = (h, ct)) (hdg : decode cc pc = .ok (.ireturn, 1)) : W p l e R s m args below meth c H locs cells slots (MQ below (Qi D post cto A) args s cells slots A) (F0 m pc ls [.int v]) := by
  obtain ⟨ws, ix, hP, hD, hS, r⟩ := O
  have hlocks := X.2.2
  exact W.iret X.1.1 X.1.2.1 (X.2.1.trans hret) (fun t ht hW => ⟨⟨v, u, rfl, hp, ws, ix, by rw [ht]; exact hP, hD, by rw [hct]; exact r⟩, hS.F ht⟩) hS.2.2 hdg
theorem x_lret {R : Room} (X : FX p m c meth s args own cc nL ret) {ct : CT} (O : XH D A s.heap h ct H locs) {S : Type} {post : Int64 → S → Prop} {cto : S → IX × CT} (hret : ret = some .long) {v : Int64} (u : S) (hp : post v u) (hct : cto u = (h, ct)) (hdg : decode cc pc = .ok (.lreturn, 1)) : W p l e R s m args below meth c H locs cells slots (MQ below (Ql D post cto A) args s cells slots A) (F0 m pc ls [.long v]) := by
  obtain ⟨ws, ix, hP, hD, hS, r⟩ := O
  have hlocks := X.2.2
  exact W.lret X.1.1 X.1.2.1 (X.2.1.trans hret) (fun t ht hW => ⟨⟨v, u, rfl, hp, ws, ix, by rw [ht]; exact hP, hD, by rw [hct]; exact r⟩, hS.F ht⟩) hS.2.2 hdg
theorem x_zret {R : Room} (X : FX p m c meth s args own cc nL ret) {ct : CT} (O : XH D A s.heap h ct H locs) {S : Type} {post : Int32 → S → Prop} {cto : S → IX × CT} (hret : ret = some .boolean) {v : Int32} (hn : narrow .boolean (.int v) = .int v) (u : S) (hp : post v u) (hct : cto u = (h, ct)) (hdg : decode cc pc = .ok (.ireturn, 1)) : W p l e R s m args below meth c H locs cells slots (MQ below (Qi D post cto A) args s cells slots A) (F0 m pc ls [.int v]) := by
  obtain ⟨ws, ix, hP, hD, hS, r⟩ := O
  have hlocks := X.2.2
  exact W.zret X.1.1 X.1.2.1 (X.2.1.trans hret) hn (fun t ht hW => ⟨⟨v, u, rfl, hp, ws, ix, by rw [ht]; exact hP, hD, by rw [hct]; exact r⟩, hS.F ht⟩) hS.2.2 hdg
theorem x_vret {R : Room} (X : FX p m c meth s args own cc nL ret) {ct : CT} (O : XH D A s.heap h ct H locs) {S : Type} {post : S → Prop} {cto : S → IX × CT} (hret : ret = none) (u : S) (hp : post u) (hct : cto u = (h, ct)) (hdg : decode cc pc = .ok (.return_, 1)) : W p l e R s m args below meth c H locs cells slots (MQ below (Qv D post cto A) args s cells slots A) (F0 m pc ls []) := by
  obtain ⟨ws, ix, hP, hD, hS, r⟩ := O
  have hlocks := X.2.2
  exact W.vret X.1.1 X.1.2.1 (X.2.1.trans hret) (fun t ht hW => ⟨⟨u, rfl, hp, ws, ix, by rw [ht]; exact hP, hD, by rw [hct]; exact r⟩, hS.F ht⟩) hS.2.2 hdg
theorem x_aret {R : Room} (X : FX p m c meth s args own cc nL ret) {ct : CT} (O : XH D A s.heap h ct H locs) {S : Type} {post : Nat → S → Prop} {cto : S → IX × CT} {rt : FieldType} (hret : ret = some rt) (hrr : (∃ n, rt = FieldType.object n) ∨ ∃ t, rt = FieldType.array t) {v : Nat} (u : S) (hp : post v u) (hct : cto u = (h, ct)) (hdg : decode cc pc = .ok (.areturn, 1)) : W p l e R s m args below meth c H locs cells slots (MQ below (Qr D post cto A) args s cells slots A) (F0 m pc ls [.ref v]) := by
  obtain ⟨ws, ix, hP, hD, hS, r⟩ := O
  have hlocks := X.2.2
  exact W.aret X.1.1 X.1.2.1 (X.2.1.trans hret) hrr (Or.inr ⟨v, rfl⟩) (fun t ht hW => ⟨⟨u, v, rfl, trivial, hp, ws, ix, by rw [ht]; exact hP, hD, by rw [hct]; exact r⟩, hS.F ht⟩) hS.2.2 hdg
theorem x_runV (X : FX p m c meth s args own cc nL ret) (K : XK D d A s) {ct : CT} (O : XH D A s.heap h ct H locs) {y : MethodName} {cc' : ByteArray} {nL' : Nat} {ret' : Option FieldType} {E : XE} {dd dd' mc ms mc0 ms0 : Nat} {Qf : (Nat → Prop) → Array Value → State → Outcome → State → Prop} {As : List Value} {t a b ci : Nat} {fs : List Value} {C : String} {T : u_T} {N : Nat} (he : ct t a b = some (.inr (ci, fs))) (hc : vwCl[ci]? = some (C, T, N)) {idx : Nat} (hM : XM l D d E y cc' nL' ret' dd' mc ms (.ref (h t a b) :: As) h ct Qf) (hEb : ∀ (B : Nat → Prop) (U : State) (g : JFrame) (mk : MethodId) (a : Array Value), E B U → E B (U.calling g mk a)) (hE : ∀ (B : Nat → Prop) (U : State), (∀ q, B q → A q) → U.heap = H → s.WarmedH U.vm → va_S A s.heap H locs → E B U) (hw : GoodIn lw_all (wsV own idx C y (ws_ y cc' nL' ret'))) (n : Nat) (hn : As.length = n) (hsize : ls.size = nL) (hW : (rest.map fun v => v.category).sum ≤ 8) (hd : y.cls = C ∧ y.cls ≠ "java/lang/invoke/MethodHandle" ∧ y.cls ≠ "java/lang/invoke/VarHandle" ∧ (parseMethodDescriptor y.desc).map (fun d => d.parameters.length) = some n) (hR : dd' < dd ∧ nL' ≤ 41) (hf : cells + mc ≤ mc0 ∧ slots + ms ≤ ms0) (hdg : decode cc pc = .ok (.invokevirtual idx, 3)) : ∃ ws : va_W, va_D A ws ∧ va_S A s.heap H locs ∧ (∀ q, va_A ws H.size q → A q) ∧ va_Run p l e (rmD dd mc0 ms0) s m args below meth c H locs cells slots mc ms (F0 m pc ls (As.reverse ++ .ref (h t a b) :: rest)) rest (Qf (va_A ws H.size) (.ref (h t a b) :: As).toArray) (va_A ws H.size) := by
  obtain ⟨ws, ix, hP, hD, hS, r⟩ := O
  have hFc : ∀ q, va_A ws H.size q → A q := by
    intro q hq
    rcases hq with ⟨k, e, hk⟩ | hq
    · exact hD.2 k _ hk
    · exact K.2.2 q (Nat.le_trans hS.1 hq)
  have hRR : (rmD dd' mc ms).frames + 1 ≤ (rmD dd mc0 ms0).frames ∧ 8 + (nL' + 11) + (rmD dd' mc ms).locals ≤ (rmD dd mc0 ms0).locals := by
    show dd' + 1 ≤ dd ∧ 8 + (nL' + 11) + 60 * dd' ≤ 60 * dd
    omega
  exact ⟨ws, hD, hS, hFc, va_runV (C := C) X.1 (hM ws H.size) (cwV n X.1.2.2.2.2 hw rfl rfl rfl hd hRR) ⟨fun a U g mk q => by obtain ⟨q0, q1, q2, q3, q4, q5, q6, q7⟩ := q; exact ⟨q0, q1, q2, q3, q4, va_K.moved (u := U) (U := U.calling g mk a) (Vm.Alike.refl U.vm) q5, q6.calling, hEb _ _ _ _ _ q7⟩, va_recv K.1 hP hc (r.1 t a b _ he), fun U hU hW => ⟨rfl, by rw [hU], by rw [hU]; exact hP, hD.weaken (fun _ _ _ _ => trivial), ⟨ix, r⟩, va_K.moved hW.alike K.1, K.2.1.warm hW, hE _ U hFc hU hW hS⟩⟩ rfl hn hsize rfl (lv_room hW) hdg hf⟩
theorem x_runVN (X : FX p m c meth s args own cc nL ret) (K : XK D d A s) {ct : CT} (O : XH D A s.heap h ct H locs) {y : MethodName} {cc' : ByteArray} {nL' : Nat} {ret' : Option FieldType} {E : XE} {dd dd' mc ms mc0 ms0 : Nat} {Qf : (Nat → Prop) → Array Value → State → Outcome → State → Prop} {As : List Value} {t a b ci : Nat} {fs : List Value} {C : String} {T : u_T} {N : Nat} (he : ct t a b = some (.inr (ci, fs))) (hc : vwCl[ci]? = some (C, T, N)) {idx : Nat} {host : String} (hM : XM l D d E y cc' nL' ret' dd' mc ms (.ref (h t a b) :: As) h ct Qf) (hEb : ∀ (B : Nat → Prop) (U : State) (g : JFrame) (mk : MethodId) (a : Array Value), E B U → E B (U.calling g mk a)) (hE : ∀ (B : Nat → Prop) (U : State), (∀ q, B q → A q) → U.heap = H → s.WarmedH U.vm → va_S A s.heap H locs → E B U) (hl : Cond.methodLinkNest own idx y host ∈ lw_tbl) (hi : Cond.instanceMethod y ∈ lw_all) (hsel : Cond.selects C y y ∈ lw_all) (hini : Cond.initialized y.cls ∈ lw_all) (hco : Cond.code y cc' nL' ret' ∈ lw_all) (n : Nat) (hn : As.length = n) (hsize : ls.size = nL) (hW : (rest.map fun v => v.category).sum ≤ 8) (hd : y.cls ≠ "java/lang/invoke/MethodHandle" ∧ y.cls ≠ "java/lang/invoke/VarHandle" ∧ (parseMethodDescriptor y.desc).map (fun d => d.parameters.length) = some n) (hR : dd' < dd ∧ nL' ≤ 41) (hf : cells + mc ≤ mc0 ∧ slots + ms ≤ ms0) (hdg : decode cc pc = .ok (.invokevirtual idx, 3)) : ∃ ws : va_W, va_D A ws ∧ va_S A s.heap H locs ∧ (∀ q, va_A ws H.size q → A q) ∧ va_Run p l e (rmD dd mc0 ms0) s m args below meth c H locs cells slots mc ms (F0 m pc ls (As.reverse ++ .ref (h t a b) :: rest)) rest (Qf (va_A ws H.size) (.ref (h t a b) :: As).toArray) (va_A ws H.size) := by
  obtain ⟨ws, ix, hP, hD, hS, r⟩ := O
  have hFc : ∀ q, va_A ws H.size q → A q := by
    intro q hq
    rcases hq with ⟨k, e, hk⟩ | hq
    · exact hD.2 k _ hk
    · exact K.2.2 q (Nat.le_trans hS.1 hq)
  have hRR : (rmD dd' mc ms).frames + 1 ≤ (rmD dd mc0 ms0).frames ∧ 8 + (nL' + 11) + (rmD dd' mc ms).locals ≤ (rmD dd mc0 ms0).locals := by
    show dd' + 1 ≤ dd ∧ 8 + (nL' + 11) + 60 * dd' ≤ 60 * dd
    omega
  exact ⟨ws, hD, hS, hFc, va_runVN (C := C) X.1 (hM ws H.size) ⟨va_cnB n X.1.2.2.2.2 (lw_meth hco) rfl rfl rfl (K.2.1.2.1 _ _ _ _ hl) (X.1.2.2.2.2 _ hini) hd hRR, X.1.2.2.2.2 _ hi, X.1.2.2.2.2 _ hsel⟩ ⟨fun a U g mk q => by obtain ⟨q0, q1, q2, q3, q4, q5, q6, q7⟩ := q; exact ⟨q0, q1, q2, q3, q4, va_K.moved (u := U) (U := U.calling g mk a) (Vm.Alike.refl U.vm) q5, q6.calling, hEb _ _ _ _ _ q7⟩, va_recv K.1 hP hc (r.1 t a b _ he), fun U hU hW => ⟨rfl, by rw [hU], by rw [hU]; exact hP, hD.weaken (fun _ _ _ _ => trivial), ⟨ix, r⟩, va_K.moved hW.alike K.1, K.2.1.warm hW, hE _ U hFc hU hW hS⟩⟩ rfl hn hsize rfl (lv_room hW) hdg hf⟩
theorem x_runS (X : FX p m c meth s args own cc nL ret) (K : XK D d A s) {ct : CT} (O : XH D A s.heap h ct H locs) {y : MethodName} {cc' : ByteArray} {nL' : Nat} {ret' : Option FieldType} {E : XE} {dd dd' mc ms mc0 ms0 : Nat} {Qf : (Nat → Prop) → Array Value → State → Outcome → State → Prop} {As : List Value} {idx : Nat} (hM : XM l D d E y cc' nL' ret' dd' mc ms As h ct Qf) (hEb : ∀ (B : Nat → Prop) (U : State) (g : JFrame) (mk : MethodId) (a : Array Value), E B U → E B (U.calling g mk a)) (hE : ∀ (B : Nat → Prop) (U : State), (∀ q, B q → A q) → U.heap = H → s.WarmedH U.vm → va_S A s.heap H locs → E B U) (hw : GoodIn lw_all (va_wsS own idx y (ws_ y cc' nL' ret'))) (n : Nat) (hn : As.length = n) (hsize : ls.size = nL) (hW : (rest.map fun v => v.category).sum ≤ 8) (hd : y.cls ≠ "java/lang/invoke/MethodHandle" ∧ y.cls ≠ "java/lang/invoke/VarHandle" ∧ (parseMethodDescriptor y.desc).map (fun d => d.parameters.length) = some n) (hR : dd' < dd ∧ nL' ≤ 41) (hf : cells + mc ≤ mc0 ∧ slots + ms ≤ ms0) (hdg : decode cc pc = .ok (.invokestatic idx, 3)) : ∃ ws : va_W, va_D A ws ∧ va_S A s.heap H locs ∧ (∀ q, va_A ws H.size q → A q) ∧ va_Run p l e (rmD dd mc0 ms0) s m args below meth c H locs cells slots mc ms (F0 m pc ls (As.reverse ++ rest)) rest (Qf (va_A ws H.size) (As).toArray) (va_A ws H.size) := by
  obtain ⟨ws, ix, hP, hD, hS, r⟩ := O
  have hFc : ∀ q, va_A ws H.size q → A q := by
    intro q hq
    rcases hq with ⟨k, e, hk⟩ | hq
    · exact hD.2 k _ hk
    · exact K.2.2 q (Nat.le_trans hS.1 hq)
  have hRR : (rmD dd' mc ms).frames + 1 ≤ (rmD dd mc0 ms0).frames ∧ 8 + (nL' + 11) + (rmD dd' mc ms).locals ≤ (rmD dd mc0 ms0).locals := by
    show dd' + 1 ≤ dd ∧ 8 + (nL' + 11) + 60 * dd' ≤ 60 * dd
    omega
  exact ⟨ws, hD, hS, hFc, va_runS X.1 (hM ws H.size) (va_cwS n X.1.2.2.2.2 hw rfl rfl rfl hd hRR) ⟨fun a U g mk q => by obtain ⟨q0, q1, q2, q3, q4, q5, q6, q7⟩ := q; exact ⟨q0, q1, q2, q3, q4, va_K.moved (u := U) (U := U.calling g mk a) (Vm.Alike.refl U.vm) q5, q6.calling, hEb _ _ _ _ _ q7⟩, fun U hU hW => ⟨rfl, by rw [hU], by rw [hU]; exact hP, hD.weaken (fun _ _ _ _ => trivial), ⟨ix, r⟩, va_K.moved hW.alike K.1, K.2.1.warm hW, hE _ U hFc hU hW hS⟩⟩ rfl hn hsize rfl (lv_room hW) hdg hf⟩
theorem x_runSN (X : FX p m c meth s args own cc nL ret) (K : XK D d A s) {ct : CT} (O : XH D A s.heap h ct H locs) {y : MethodName} {cc' : ByteArray} {nL' : Nat} {ret' : Option FieldType} {E : XE} {dd dd' mc ms mc0 ms0 : Nat} {Qf : (Nat → Prop) → Array Value → State → Outcome → State → Prop} {As : List Value} {idx : Nat} {host : String} (hM : XM l D d E y cc' nL' ret' dd' mc ms As h ct Qf) (hEb : ∀ (B : Nat → Prop) (U : State) (g : JFrame) (mk : MethodId) (a : Array Value), E B U → E B (U.calling g mk a)) (hE : ∀ (B : Nat → Prop) (U : State), (∀ q, B q → A q) → U.heap = H → s.WarmedH U.vm → va_S A s.heap H locs → E B U) (hl : Cond.methodLinkNest own idx y host ∈ lw_tbl) (hst : Cond.static y ∈ lw_all) (hini : Cond.initialized y.cls ∈ lw_all) (hco : Cond.code y cc' nL' ret' ∈ lw_all) (n : Nat) (hn : As.length = n) (hsize : ls.size = nL) (hW : (rest.map fun v => v.category).sum ≤ 8) (hd : y.cls ≠ "java/lang/invoke/MethodHandle" ∧ y.cls ≠ "java/lang/invoke/VarHandle" ∧ (parseMethodDescriptor y.desc).map (fun d => d.parameters.length) = some n) (hR : dd' < dd ∧ nL' ≤ 41) (hf : cells + mc ≤ mc0 ∧ slots + ms ≤ ms0) (hdg : decode cc pc = .ok (.invokestatic idx, 3)) : ∃ ws : va_W, va_D A ws ∧ va_S A s.heap H locs ∧ (∀ q, va_A ws H.size q → A q) ∧ va_Run p l e (rmD dd mc0 ms0) s m args below meth c H locs cells slots mc ms (F0 m pc ls (As.reverse ++ rest)) rest (Qf (va_A ws H.size) (As).toArray) (va_A ws H.size) := by
  obtain ⟨ws, ix, hP, hD, hS, r⟩ := O
  have hFc : ∀ q, va_A ws H.size q → A q := by
    intro q hq
    rcases hq with ⟨k, e, hk⟩ | hq
    · exact hD.2 k _ hk
    · exact K.2.2 q (Nat.le_trans hS.1 hq)
  have hRR : (rmD dd' mc ms).frames + 1 ≤ (rmD dd mc0 ms0).frames ∧ 8 + (nL' + 11) + (rmD dd' mc ms).locals ≤ (rmD dd mc0 ms0).locals := by
    show dd' + 1 ≤ dd ∧ 8 + (nL' + 11) + 60 * dd' ≤ 60 * dd
    omega
  exact ⟨ws, hD, hS, hFc, va_runSN X.1 (hM ws H.size) ⟨va_cnB n X.1.2.2.2.2 (lw_meth hco) rfl rfl rfl (K.2.1.2.1 _ _ _ _ hl) (X.1.2.2.2.2 _ hini) hd hRR, X.1.2.2.2.2 _ hst, trivial⟩ ⟨fun a U g mk q => by obtain ⟨q0, q1, q2, q3, q4, q5, q6, q7⟩ := q; exact ⟨q0, q1, q2, q3, q4, va_K.moved (u := U) (U := U.calling g mk a) (Vm.Alike.refl U.vm) q5, q6.calling, hEb _ _ _ _ _ q7⟩, fun U hU hW => ⟨rfl, by rw [hU], by rw [hU]; exact hP, hD.weaken (fun _ _ _ _ => trivial), ⟨ix, r⟩, va_K.moved hW.alike K.1, K.2.1.warm hW, hE _ U hFc hU hW hS⟩⟩ rfl hn hsize rfl (lv_room hW) hdg hf⟩
theorem x_runI (X : FX p m c meth s args own cc nL ret) (K : XK D d A s) {ct : CT} (O : XH D A s.heap h ct H locs) {y : MethodName} {cc' : ByteArray} {nL' : Nat} {ret' : Option FieldType} {E : XE} {dd dd' mc ms mc0 ms0 : Nat} {Qf : (Nat → Prop) → Array Value → State → Outcome → State → Prop} {As : List Value} {bb : Nat} {idx : Nat} (hM : XM l D d E y cc' nL' none dd' mc ms (.ref bb :: As) h ct Qf) (hEb : ∀ (B : Nat → Prop) (U : State) (g : JFrame) (mk : MethodId) (a : Array Value), E B U → E B (U.calling g mk a)) (hE : ∀ (B : Nat → Prop) (U : State), (∀ q, B q → A q) → U.heap = H → s.WarmedH U.vm → va_S A s.heap H locs → E B U) (hl : Cond.methodLink own idx y ∈ lw_all) (hi : Cond.instanceMethod y ∈ lw_all) (hini : Cond.initialized y.cls ∈ lw_all) (hco : Cond.code y cc' nL' none ∈ lw_all) (hnm : y.name = "<init>") (n : Nat) (hn : As.length = n) (hsize : ls.size = nL) (hW : (rest.map fun v => v.category).sum ≤ 8) (hd : y.cls ≠ "java/lang/invoke/MethodHandle" ∧ y.cls ≠ "java/lang/invoke/VarHandle" ∧ (parseMethodDescriptor y.desc).map (fun d => d.parameters.length) = some n) (hR : dd' < dd ∧ nL' ≤ 41) (hf : cells + mc ≤ mc0 ∧ slots + ms ≤ ms0) (hdg : decode cc pc = .ok (.invokespecial idx, 3)) : ∃ ws : va_W, va_D A ws ∧ va_S A s.heap H locs ∧ (∀ q, va_A ws H.size q → A q) ∧ va_Run p l e (rmD dd mc0 ms0) s m args below meth c H locs cells slots mc ms (F0 m pc ls (As.reverse ++ .ref bb :: rest)) rest (Qf (va_A ws H.size) (.ref bb :: As).toArray) (va_A ws H.size) := by
  obtain ⟨ws, ix, hP, hD, hS, r⟩ := O
  have hFc : ∀ q, va_A ws H.size q → A q := by
    intro q hq
    rcases hq with ⟨k, e, hk⟩ | hq
    · exact hD.2 k _ hk
    · exact K.2.2 q (Nat.le_trans hS.1 hq)
  have hRR : (rmD dd' mc ms).frames + 1 ≤ (rmD dd mc0 ms0).frames ∧ 8 + (nL' + 11) + (rmD dd' mc ms).locals ≤ (rmD dd mc0 ms0).locals := by
    show dd' + 1 ≤ dd ∧ 8 + (nL' + 11) + 60 * dd' ≤ 60 * dd
    omega
  exact ⟨ws, hD, hS, hFc, va_runI X.1 (hM ws H.size) (cwI n X.1.2.2.2.2 (lw_meth hco) rfl rfl rfl (X.1.2.2.2.2 _ hini) (X.1.2.2.2.2 _ hl) (X.1.2.2.2.2 _ hi) hnm hd hRR) ⟨fun a U g mk q => by obtain ⟨q0, q1, q2, q3, q4, q5, q6, q7⟩ := q; exact ⟨q0, q1, q2, q3, q4, va_K.moved (u := U) (U := U.calling g mk a) (Vm.Alike.refl U.vm) q5, q6.calling, hEb _ _ _ _ _ q7⟩, fun U hU hW => ⟨rfl, by rw [hU], by rw [hU]; exact hP, hD.weaken (fun _ _ _ _ => trivial), ⟨ix, r⟩, va_K.moved hW.alike K.1, K.2.1.warm hW, hE _ U hFc hU hW hS⟩⟩ rfl hn hsize rfl (lv_room hW) hdg hf⟩
theorem x_runIN (X : FX p m c meth s args own cc nL ret) (K : XK D d A s) {ct : CT} (O : XH D A s.heap h ct H locs) {y : MethodName} {cc' : ByteArray} {nL' : Nat} {ret' : Option FieldType} {E : XE} {dd dd' mc ms mc0 ms0 : Nat} {Qf : (Nat → Prop) → Array Value → State → Outcome → State → Prop} {As : List Value} {bb : Nat} {idx : Nat} {host : String} (hM : XM l D d E y cc' nL' none dd' mc ms (.ref bb :: As) h ct Qf) (hEb : ∀ (B : Nat → Prop) (U : State) (g : JFrame) (mk : MethodId) (a : Array Value), E B U → E B (U.calling g mk a)) (hE : ∀ (B : Nat → Prop) (U : State), (∀ q, B q → A q) → U.heap = H → s.WarmedH U.vm → va_S A s.heap H locs → E B U) (hl : Cond.methodLinkNest own idx y host ∈ lw_tbl) (hi : Cond.instanceMethod y ∈ lw_all) (hini : Cond.initialized y.cls ∈ lw_all) (hco : Cond.code y cc' nL' none ∈ lw_all) (hnm : y.name = "<init>") (n : Nat) (hn : As.length = n) (hsize : ls.size = nL) (hW : (rest.map fun v => v.category).sum ≤ 8) (hd : y.cls ≠ "java/lang/invoke/MethodHandle" ∧ y.cls ≠ "java/lang/invoke/VarHandle" ∧ (parseMethodDescriptor y.desc).map (fun d => d.parameters.length) = some n) (hR : dd' < dd ∧ nL' ≤ 41) (hf : cells + mc ≤ mc0 ∧ slots + ms ≤ ms0) (hdg : decode cc pc = .ok (.invokespecial idx, 3)) : ∃ ws : va_W, va_D A ws ∧ va_S A s.heap H locs ∧ (∀ q, va_A ws H.size q → A q) ∧ va_Run p l e (rmD dd mc0 ms0) s m args below meth c H locs cells slots mc ms (F0 m pc ls (As.reverse ++ .ref bb :: rest)) rest (Qf (va_A ws H.size) (.ref bb :: As).toArray) (va_A ws H.size) := by
  obtain ⟨ws, ix, hP, hD, hS, r⟩ := O
  have hFc : ∀ q, va_A ws H.size q → A q := by
    intro q hq
    rcases hq with ⟨k, e, hk⟩ | hq
    · exact hD.2 k _ hk
    · exact K.2.2 q (Nat.le_trans hS.1 hq)
  have hRR : (rmD dd' mc ms).frames + 1 ≤ (rmD dd mc0 ms0).frames ∧ 8 + (nL' + 11) + (rmD dd' mc ms).locals ≤ (rmD dd mc0 ms0).locals := by
    show dd' + 1 ≤ dd ∧ 8 + (nL' + 11) + 60 * dd' ≤ 60 * dd
    omega
  exact ⟨ws, hD, hS, hFc, va_runIN X.1 (hM ws H.size) ⟨va_cnB n X.1.2.2.2.2 (lw_meth hco) rfl rfl rfl (K.2.1.2.1 _ _ _ _ hl) (X.1.2.2.2.2 _ hini) hd hRR, hnm, X.1.2.2.2.2 _ hi⟩ ⟨fun a U g mk q => by obtain ⟨q0, q1, q2, q3, q4, q5, q6, q7⟩ := q; exact ⟨q0, q1, q2, q3, q4, va_K.moved (u := U) (U := U.calling g mk a) (Vm.Alike.refl U.vm) q5, q6.calling, hEb _ _ _ _ _ q7⟩, fun U hU hW => ⟨rfl, by rw [hU], by rw [hU]; exact hP, hD.weaken (fun _ _ _ _ => trivial), ⟨ix, r⟩, va_K.moved hW.alike K.1, K.2.1.warm hW, hE _ U hFc hU hW hS⟩⟩ rfl hn hsize rfl (lv_room hW) hdg hf⟩
theorem x_runU (X : FX p m c meth s args own cc nL ret) (K : XK D d A s) {ct : CT} (O : XH D A s.heap h ct H locs) {y : MethodName} {cc' : ByteArray} {nL' : Nat} {ret' : Option FieldType} {E : XE} {dd dd' mc ms mc0 ms0 : Nat} {Qf : (Nat → Prop) → Array Value → State → Outcome → State → Prop} {As : List Value} {t a b ci : Nat} {fs : List Value} {C : String} {T : u_T} {N : Nat} (he : ct t a b = some (.inr (ci, fs))) (hc : vwCl[ci]? = some (C, T, N)) {idx : Nat} {x : MethodName} {owner : String} (hM : XM l D d E y cc' nL' ret' dd' mc ms (.ref (h t a b) :: As) h ct Qf) (hEb : ∀ (B : Nat → Prop) (U : State) (g : JFrame) (mk : MethodId) (a : Array Value), E B U → E B (U.calling g mk a)) (hE : ∀ (B : Nat → Prop) (U : State), (∀ q, B q → A q) → U.heap = H → s.WarmedH U.vm → va_S A s.heap H locs → E B U) (hw : GoodIn lw_all (va_wsU own idx C owner x y (ws_ y cc' nL' ret'))) (hz : Cond.declares ⟨owner, x.name, x.desc⟩ ∈ lw_tbl) (n : Nat) (hn : As.length = n) (hsize : ls.size = nL) (hW : (rest.map fun v => v.category).sum ≤ 8) (hd : owner ≠ "java/lang/invoke/MethodHandle" ∧ owner ≠ "java/lang/invoke/VarHandle" ∧ (parseMethodDescriptor x.desc).map (fun d => d.parameters.length) = some n) (hR : dd' < dd ∧ nL' ≤ 41) (hf : cells + mc ≤ mc0 ∧ slots + ms ≤ ms0) (hdg : decode cc pc = .ok (.invokevirtual idx, 3)) : ∃ ws : va_W, va_D A ws ∧ va_S A s.heap H locs ∧ (∀ q, va_A ws H.size q → A q) ∧ va_Run p l e (rmD dd mc0 ms0) s m args below meth c H locs cells slots mc ms (F0 m pc ls (As.reverse ++ .ref (h t a b) :: rest)) rest (Qf (va_A ws H.size) (.ref (h t a b) :: As).toArray) (va_A ws H.size) := by
  obtain ⟨ws, ix, hP, hD, hS, r⟩ := O
  have hFc : ∀ q, va_A ws H.size q → A q := by
    intro q hq
    rcases hq with ⟨k, e, hk⟩ | hq
    · exact hD.2 k _ hk
    · exact K.2.2 q (Nat.le_trans hS.1 hq)
  have hRR : (rmD dd' mc ms).frames + 1 ≤ (rmD dd mc0 ms0).frames ∧ 8 + (nL' + 11) + (rmD dd' mc ms).locals ≤ (rmD dd mc0 ms0).locals := by
    show dd' + 1 ≤ dd ∧ 8 + (nL' + 11) + 60 * dd' ≤ 60 * dd
    omega
  exact ⟨ws, hD, hS, hFc, va_runU (C := C) X.1 (hM ws H.size) (va_cwA n X.1.2.2.2.2 hw rfl rfl rfl (K.2.1.2.2.1 _ hz) hd hRR) ⟨fun a U g mk q => by obtain ⟨q0, q1, q2, q3, q4, q5, q6, q7⟩ := q; exact ⟨q0, q1, q2, q3, q4, va_K.moved (u := U) (U := U.calling g mk a) (Vm.Alike.refl U.vm) q5, q6.calling, hEb _ _ _ _ _ q7⟩, va_recv K.1 hP hc (r.1 t a b _ he), fun U hU hW => ⟨rfl, by rw [hU], by rw [hU]; exact hP, hD.weaken (fun _ _ _ _ => trivial), ⟨ix, r⟩, va_K.moved hW.alike K.1, K.2.1.warm hW, hE _ U hFc hU hW hS⟩⟩ rfl hn hsize rfl (lv_room hW) hdg hf⟩
theorem x_runF (X : FX p m c meth s args own cc nL ret) (K : XK D d A s) {ct : CT} (O : XH D A s.heap h ct H locs) {y : MethodName} {cc' : ByteArray} {nL' : Nat} {ret' : Option FieldType} {E : XE} {dd dd' mc ms mc0 ms0 : Nat} {Qf : (Nat → Prop) → Array Value → State → Outcome → State → Prop} {As : List Value} {t a b ci : Nat} {fs : List Value} {C : String} {T : u_T} {N : Nat} (he : ct t a b = some (.inr (ci, fs))) (hc : vwCl[ci]? = some (C, T, N)) {idx cnt : Nat} {x : MethodName} (hM : XM l D d E y cc' nL' ret' dd' mc ms (.ref (h t a b) :: As) h ct Qf) (hEb : ∀ (B : Nat → Prop) (U : State) (g : JFrame) (mk : MethodId) (a : Array Value), E B U → E B (U.calling g mk a)) (hE : ∀ (B : Nat → Prop) (U : State), (∀ q, B q → A q) → U.heap = H → s.WarmedH U.vm → va_S A s.heap H locs → E B U) (hw : GoodIn lw_all (va_wsF own idx C x y (ws_ y cc' nL' ret'))) (hz : va_Fw C x y s) (n : Nat) (hn : As.length = n) (hsize : ls.size = nL) (hW : (rest.map fun v => v.category).sum ≤ 8) (hd : x.cls ≠ "java/lang/invoke/MethodHandle" ∧ x.cls ≠ "java/lang/invoke/VarHandle" ∧ (parseMethodDescriptor x.desc).map (fun d => d.parameters.length) = some n) (hR : dd' < dd ∧ nL' ≤ 41) (hf : cells + mc ≤ mc0 ∧ slots + ms ≤ ms0) (hdg : decode cc pc = .ok (.invokeinterface idx cnt, 5)) : ∃ ws : va_W, va_D A ws ∧ va_S A s.heap H locs ∧ (∀ q, va_A ws H.size q → A q) ∧ va_Run5 p l e (rmD dd mc0 ms0) s m args below meth c H locs cells slots mc ms (F0 m pc ls (As.reverse ++ .ref (h t a b) :: rest)) rest (Qf (va_A ws H.size) (.ref (h t a b) :: As).toArray) (va_A ws H.size) := by
  obtain ⟨ws, ix, hP, hD, hS, r⟩ := O
  have hFc : ∀ q, va_A ws H.size q → A q := by
    intro q hq
    rcases hq with ⟨k, e, hk⟩ | hq
    · exact hD.2 k _ hk
    · exact K.2.2 q (Nat.le_trans hS.1 hq)
  have hRR : (rmD dd' mc ms).frames + 1 ≤ (rmD dd mc0 ms0).frames ∧ 8 + (nL' + 11) + (rmD dd' mc ms).locals ≤ (rmD dd mc0 ms0).locals := by
    show dd' + 1 ≤ dd ∧ 8 + (nL' + 11) + 60 * dd' ≤ 60 * dd
    omega
  exact ⟨ws, hD, hS, hFc, va_runF (C := C) (K.1.1 ci _ hc).2 X.1 (hM ws H.size) (va_cwF n X.1.2.2.2.2 hw rfl rfl rfl hz hd hRR) ⟨fun a U g mk q => by obtain ⟨q0, q1, q2, q3, q4, q5, q6, q7⟩ := q; exact ⟨q0, q1, q2, q3, q4, va_K.moved (u := U) (U := U.calling g mk a) (Vm.Alike.refl U.vm) q5, q6.calling, hEb _ _ _ _ _ q7⟩, va_recv K.1 hP hc (r.1 t a b _ he), fun U hU hW => ⟨rfl, by rw [hU], by rw [hU]; exact hP, hD.weaken (fun _ _ _ _ => trivial), ⟨ix, r⟩, va_K.moved hW.alike K.1, K.2.1.warm hW, hE _ U hFc hU hW hS⟩⟩ rfl hn hsize rfl (lv_room hW) hdg hf⟩
theorem x_callFi {R : Room} {st0 : List Value} {S : Type} {post : Int32 → S → Prop} {cto : S → IX × CT} {mc ms : Nat} {av : Array Value} (hr : ∃ ws : va_W, va_D A ws ∧ va_S A s.heap H locs ∧ (∀ q, va_A ws H.size q → A q) ∧ va_Run5 p l e R s m args below meth c H locs cells slots mc ms (F0 m pc ls st0) rest (Qi D post cto (va_A ws H.size) av) (va_A ws H.size))
    (kk : ∀ (r : Int32) (u : S) (H1 : Heap) (locs1 : List Loc), post r u → XH D A s.heap (cto u).1 (cto u).2 H1 locs1 → H.size ≤ H1.size → W p l e R s m args below meth c H1 locs1 (cells + mc) (slots + ms) Q (F0 m (pc + 5) ls (.int r :: rest))) : W p l e R s m args below meth c H locs cells slots Q (F0 m pc ls st0) := by
  obtain ⟨ws, hD, hS, hFc, hrun⟩ := hr
  refine va_callFi hrun hS (fun q _ h => hFc q h) hFc (fun r u t H1 locs1 ht hvm hp hB hz hk hS1 => ?_)
  obtain ⟨ws', ix', h1, h2, h3⟩ := hB
  rw [ht] at h1
  exact kk r u H1 locs1 hp ⟨ws', ix', h1, h2.weaken (fun _ _ _ h => hFc _ h), hS1, h3⟩ hz
theorem x_calli {R : Room} {st0 : List Value} {S : Type} {post : Int32 → S → Prop} {cto : S → IX × CT} {mc ms : Nat} {av : Array Value} (hr : ∃ ws : va_W, va_D A ws ∧ va_S A s.heap H locs ∧ (∀ q, va_A ws H.size q → A q) ∧ va_Run p l e R s m args below meth c H locs cells slots mc ms (F0 m pc ls st0) rest (Qi D post cto (va_A ws H.size) av) (va_A ws H.size))
    (kk : ∀ (r : Int32) (u : S) (H1 : Heap) (locs1 : List Loc), post r u → XH D A s.heap (cto u).1 (cto u).2 H1 locs1 → H.size ≤ H1.size → W p l e R s m args below meth c H1 locs1 (cells + mc) (slots + ms) Q (F0 m (pc + 3) ls (.int r :: rest))) : W p l e R s m args below meth c H locs cells slots Q (F0 m pc ls st0) := by
  obtain ⟨ws, hD, hS, hFc, hrun⟩ := hr
  refine va_calli hrun hS (fun q _ h => hFc q h) hFc (fun r u t H1 locs1 ht hvm hp hB hz hk hS1 => ?_)
  obtain ⟨ws', ix', h1, h2, h3⟩ := hB
  rw [ht] at h1
  exact kk r u H1 locs1 hp ⟨ws', ix', h1, h2.weaken (fun _ _ _ h => hFc _ h), hS1, h3⟩ hz
theorem x_calll {R : Room} {st0 : List Value} {S : Type} {post : Int64 → S → Prop} {cto : S → IX × CT} {mc ms : Nat} {av : Array Value} (hr : ∃ ws : va_W, va_D A ws ∧ va_S A s.heap H locs ∧ (∀ q, va_A ws H.size q → A q) ∧ va_Run p l e R s m args below meth c H locs cells slots mc ms (F0 m pc ls st0) rest (Ql D post cto (va_A ws H.size) av) (va_A ws H.size))
    (kk : ∀ (r : Int64) (u : S) (H1 : Heap) (locs1 : List Loc), post r u → XH D A s.heap (cto u).1 (cto u).2 H1 locs1 → H.size ≤ H1.size → W p l e R s m args below meth c H1 locs1 (cells + mc) (slots + ms) Q (F0 m (pc + 3) ls (.long r :: rest))) : W p l e R s m args below meth c H locs cells slots Q (F0 m pc ls st0) := by
  obtain ⟨ws, hD, hS, hFc, hrun⟩ := hr
  refine va_calll hrun hS (fun q _ h => hFc q h) hFc (fun r u t H1 locs1 ht hvm hp hB hz hk hS1 => ?_)
  obtain ⟨ws', ix', h1, h2, h3⟩ := hB
  rw [ht] at h1
  exact kk r u H1 locs1 hp ⟨ws', ix', h1, h2.weaken (fun _ _ _ h => hFc _ h), hS1, h3⟩ hz
theorem x_callv {R : Room} {st0 : List Value} {S : Type} {post : S → Prop} {cto : S → IX × CT} {mc ms : Nat} {av : Array Value} (hr : ∃ ws : va_W, va_D A ws ∧ va_S A s.heap H locs ∧ (∀ q, va_A ws H.size q → A q) ∧ va_Run p l e R s m args below meth c H locs cells slots mc ms (F0 m pc ls st0) rest (Qv D post cto (va_A ws H.size) av) (va_A ws H.size))
    (kk : ∀ (u : S) (H1 : Heap) (locs1 : List Loc), post u → XH D A s.heap (cto u).1 (cto u).2 H1 locs1 → H.size ≤ H1.size → W p l e R s m args below meth c H1 locs1 (cells + mc) (slots + ms) Q (F0 m (pc + 3) ls rest)) : W p l e R s m args below meth c H locs cells slots Q (F0 m pc ls st0) := by
  obtain ⟨ws, hD, hS, hFc, hrun⟩ := hr
  refine va_callv hrun hS (fun q _ h => hFc q h) hFc (fun u t H1 locs1 ht hvm hp hB hz hk hS1 => ?_)
  obtain ⟨ws', ix', h1, h2, h3⟩ := hB
  rw [ht] at h1
  exact kk u H1 locs1 hp ⟨ws', ix', h1, h2.weaken (fun _ _ _ h => hFc _ h), hS1, h3⟩ hz
theorem x_callr {R : Room} {st0 : List Value} {S : Type} {post : Nat → S → Prop} {cto : S → IX × CT} {mc ms : Nat} {av : Array Value} (hr : ∃ ws : va_W, va_D A ws ∧ va_S A s.heap H locs ∧ (∀ q, va_A ws H.size q → A q) ∧ va_Run p l e R s m args below meth c H locs cells slots mc ms (F0 m pc ls st0) rest (Qr D post cto (va_A ws H.size) av) (va_A ws H.size))
    (kk : ∀ (r : Nat) (u : S) (H1 : Heap) (locs1 : List Loc), post r u → XH D A s.heap (cto u).1 (cto u).2 H1 locs1 → H.size ≤ H1.size → W p l e R s m args below meth c H1 locs1 (cells + mc) (slots + ms) Q (F0 m (pc + 3) ls (.ref r :: rest))) : W p l e R s m args below meth c H locs cells slots Q (F0 m pc ls st0) := by
  obtain ⟨ws, hD, hS, hFc, hrun⟩ := hr
  refine va_callr hrun hS (fun q _ h => hFc q h) hFc (fun u ra t H1 locs1 ht hvm hp hB hz hk hS1 => ?_)
  obtain ⟨hpo, ws', ix', h1, h2, h3⟩ := hB
  rw [ht] at h1
  exact kk ra u H1 locs1 hpo ⟨ws', ix', h1, h2.weaken (fun _ _ _ h => hFc _ h), hS1, h3⟩ hz
theorem x_top {R : Room} {v w : Value} (hv : w = v) (kk : W p l e R s m args below meth c H locs cells slots Q (F0 m pc ls (w :: rest))) : W p l e R s m args below meth c H locs cells slots Q (F0 m pc ls (v :: rest)) := hv ▸ kk
end XC
/-- contracts whose answer is one plain state and value -/
abbrev pz {α : Type} (z : ST × α) : α → ST → Prop := fun r u => z = (u, r)
abbrev pu (z : ST) : ST → Prop := fun u => z = u
abbrev cw (h : IX) (L : LY) (ok : Nat → Nat → Nat → Bool) (d : Nat → ClassId) : ST → IX × CT := fun u => (h, xct L ok h d u)
theorem EN_b : ∀ (B : Nat → Prop) (U : State) (g : JFrame) (mk : MethodId) (a : Array Value), EN B U → EN B (U.calling g mk a) := fun _ _ _ _ _ _ => trivial
theorem EN_h {A : Nat → Prop} {H : Heap} {s : State} {locs : List Loc} : ∀ (B : Nat → Prop) (U : State), (∀ q, B q → A q) → U.heap = H → s.WarmedH U.vm → va_S A s.heap H locs → EN B U := fun _ _ _ _ _ _ => trivial
