/-! final fields in makers; the Fault's maker; a throw; contracts that return or throw -/
theorem up3_up3 (ct : CT) (t a b : Nat) (e1 e2 : va_E) : up3 (up3 ct t a b e1) t a b e2 = up3 ct t a b e2 := by
  funext t' a' b'
  unfold up3
  by_cases hq : t' = t ∧ a' = a ∧ b' = b
  · rw [if_pos hq, if_pos hq]
  · rw [if_neg hq, if_neg hq, if_neg hq]
theorem up3_self {ct : CT} {t a b : Nat} {e : va_E} : up3 ct t a b e t a b = some e := if_pos ⟨rfl, rfl, rfl⟩
section ZF
variable {p : Program} {l : Launch} {e : Env} {R : Room} {s : State} {m : MethodId} {args : Array Value} {below : List Frame} {meth : Method} {c : Code} {H : Heap} {locs : List Loc} {cells slots : Nat} {Q : State → Prop}
variable {cc : ByteArray} {nL : Nat} {ret : Option FieldType} {own : String} {pc : Nat} {ls : Array Slot} {rest : List Value} {D : va_G} {A : Nat → Prop} {h : IX} {d : Nat → ClassId} {H0 : Heap}
theorem x_putF (X : FX p m c meth s args own cc nL ret) (K : XK D d A s) {ct : CT} (O : XH D A H0 h ct H locs) {t a b ci : Nat} (k : Nat) {fs : List Value} {C : String} {T : u_T} {N idx : Nat} {v : Value} {ty0 : Nat → FieldType} (hnmI : meth.name = "<init>") (he : ct t a b = some (.inr (ci, fs))) (hc : vwCl[ci]? = some (C, T, N)) (hin : ∀ w ∈ u_ws C T N, w ∈ lw_all) (hty : ∀ k, k < N → parseFieldDescriptor (T k).2.2.1 = some (ty0 k)) (hnm : ∀ a, a < N → ∀ b, b < N → a ≠ b → (T a).2.1 ≠ (T b).2.1) (hk : k < N) (hlink : Cond.fieldLink own idx (T k).1 (T k).2.1 (T k).2.2.1 ∈ lw_all) (hfin : (T k).2.2.2 = true) (hdecl : (T k).1 = own) (hn : narrow (ty0 k) v = v) (hfit : fits (ty0 k) v = true) (hl : k < fs.length) (hdg : decode cc pc = .ok (.putfield idx, 3)) {qa : Nat} (hqa : h t a b = qa)
    (kk : ∀ (H1 : Heap) (locs1 : List Loc), XH D A H0 h (up3 ct t a b (.inr (ci, fs.set k v))) H1 locs1 → W p l e R s m args below meth c H1 locs1 cells slots Q (F0 m (pc + 3) ls rest)) : W p l e R s m args below meth c H locs cells slots Q (F0 m pc ls (v :: .ref qa :: rest)) := by
  subst hqa
  obtain ⟨ws, ix, hP, hD, hS, r⟩ := O
  exact va_putF X.1.1 X.1.2.1 X.1.2.2.2.2 hin ty0 hty hnm X.1.2.2.2.1 K.1 hP hD hS (ix t a b) (r.1 t a b _ he) hc k hk (X.1.2.2.2.2 _ hlink) (fun _ h => h) hfin hnmI hdecl (hty k hk) hn hfit hl hdg (fun H1 locs1 h1 h2 h3 => kk H1 locs1 ⟨_, _, h1, h2, h3, r.set he _⟩)
theorem x_pIF (X : FX p m c meth s args own cc nL ret) (K : XK D d A s) {L : LY} {ok : Nat → Nat → Nat → Bool} {σ : ST} (hnmI : meth.name = "<init>") (O : XH D A H0 h (xct L ok h d σ) H locs) {t a b ci : Nat} (k : Nat) {sp : List (Nat × Nat × Nat × Nat)} {q : Nat × Nat × Nat} {C : String} {T : u_T} {N idx : Nat} {ty0 : Nat → FieldType} {x : Int32} (hok : ok t a b = true) (hL : L t a b = .inr (ci, sp)) (hs : sp[k]? = some (0, q)) (hc : vwCl[ci]? = some (C, T, N)) (hin : ∀ w ∈ u_ws C T N, w ∈ lw_all) (hty : ∀ k, k < N → parseFieldDescriptor (T k).2.2.1 = some (ty0 k)) (hnm : ∀ a, a < N → ∀ b, b < N → a ≠ b → (T a).2.1 ≠ (T b).2.1) (hk : k < N) (hlink : Cond.fieldLink own idx (T k).1 (T k).2.1 (T k).2.2.1 ∈ lw_all) (hfin : (T k).2.2.2 = true) (hdecl : (T k).1 = own) (hn : narrow (ty0 k) (.int x) = .int x) (hfit : fits (ty0 k) (.int x) = true) (hdg : decode cc pc = .ok (.putfield idx, 3))
    (kk : ∀ (H1 : Heap) (locs1 : List Loc), XH D A H0 h (xct L ok h d (sI σ t a b k x)) H1 locs1 → W p l e R s m args below meth c H1 locs1 cells slots Q (F0 m (pc + 3) ls rest)) : W p l e R s m args below meth c H locs cells slots Q (F0 m pc ls (.int x :: .ref (h t a b) :: rest)) := by
  have e := xw_putI x hok hL hs (h := h) (d := d) (σ := σ)
  have hl : k < (xfs h σ t a b 0 sp).length := by rw [xfs_len]; exact (List.getElem?_eq_some_iff.mp hs).1
  exact x_putF X K O (ci := ci) k hnmI (by rw [xct_some hok, hL]; rfl) hc hin hty hnm hk hlink hfin hdecl hn hfit hl hdg rfl (fun H1 locs1 h1 => kk H1 locs1 (by rw [← e]; exact h1))
theorem x_pQF (X : FX p m c meth s args own cc nL ret) (K : XK D d A s) {L : LY} {ok : Nat → Nat → Nat → Bool} {σ : ST} (hnmI : meth.name = "<init>") (O : XH D A H0 h (xct L ok h d σ) H locs) {t a b ci : Nat} (k : Nat) {sp : List (Nat × Nat × Nat × Nat)} {t1 : Nat} {q : Nat × Nat} {C : String} {T : u_T} {N idx : Nat} {ty0 : Nat → FieldType} {x : Nat} (hok : ok t a b = true) (hL : L t a b = .inr (ci, sp)) (hs : sp[k]? = some (4, t1, q)) (hc : vwCl[ci]? = some (C, T, N)) (hin : ∀ w ∈ u_ws C T N, w ∈ lw_all) (hty : ∀ k, k < N → parseFieldDescriptor (T k).2.2.1 = some (ty0 k)) (hnm : ∀ a, a < N → ∀ b, b < N → a ≠ b → (T a).2.1 ≠ (T b).2.1) (hk : k < N) (hlink : Cond.fieldLink own idx (T k).1 (T k).2.1 (T k).2.2.1 ∈ lw_all) (hfin : (T k).2.2.2 = true) (hdecl : (T k).1 = own) (hn : narrow (ty0 k) (.ref (h t1 x 0)) = .ref (h t1 x 0)) (hfit : fits (ty0 k) (.ref (h t1 x 0)) = true) (hdg : decode cc pc = .ok (.putfield idx, 3))
    (kk : ∀ (H1 : Heap) (locs1 : List Loc), XH D A H0 h (xct L ok h d (sR σ t a b k (x + 1))) H1 locs1 → W p l e R s m args below meth c H1 locs1 cells slots Q (F0 m (pc + 3) ls rest)) : W p l e R s m args below meth c H locs cells slots Q (F0 m pc ls (.ref (h t1 x 0) :: .ref (h t a b) :: rest)) := by
  have e := xw_putQ x hok hL hs (h := h) (d := d) (σ := σ)
  have hl : k < (xfs h σ t a b 0 sp).length := by rw [xfs_len]; exact (List.getElem?_eq_some_iff.mp hs).1
  exact x_putF X K O (ci := ci) k hnmI (by rw [xct_some hok, hL]; rfl) hc hin hty hnm hk hlink hfin hdecl hn hfit hl hdg rfl (fun H1 locs1 h1 => kk H1 locs1 (by rw [← e]; exact h1))
end ZF
def EF (adK adV : Nat → Nat) (e0 q : Nat) : XE := fun A U => ES adK adV e0 A U ∧ ∃ (cX : ClassId) (kX : Class), U.vm.findClass "NotchSticks$Fault" = some cX ∧ U.vm.classes[cX]? = some kX ∧ U.heap[q]? = some (freshCell cX kX)
theorem EF_b {adK adV : Nat → Nat} {e0 q : Nat} : ∀ (B : Nat → Prop) (U : State) (g : JFrame) (mk : MethodId) (a : Array Value), EF adK adV e0 q B U → EF adK adV e0 q B (U.calling g mk a) := fun B U g mk a h => ⟨ES_b B U g mk a h.1, h.2⟩
theorem m_fault {l : Launch} {D : va_G} {d : Nat → ClassId} {h : IX} {ct : CT} {adK adV : Nat → Nat} {e0 q : Nat} {fs : List Value} {k p0 : Int32} (htr0 : l.stackTraces = false) (he : ct 25 q 0 = some (.inr (14, fs))) (hq : h 25 q 0 = q) : XM l D d (EF adK adV e0 q) yX8_init cX8_init 3 none 4 0 0 [.ref q, .int k, .int p0] h ct (Qv D (fun fs' : List Value => fs'.length = 8 ∧ fs'[6]? = some (.int k) ∧ fs'[7]? = some (.int p0)) (fun fs' => (h, up3 ct 25 q 0 (.inr (14, fs'))))) := by
  refine XM.of (by decide +kernel) (Nat.le_of_ble_eq_true rfl) ?_
  intro p e s m below meth c A ls X hnm K hE O hl
  have hl : lv_has ls 3 [(0, .ref q), (1, .int k), (2, .int p0)] := hl
  have hx := X.1.1; have hb := X.1.2.1
  obtain ⟨hE, cX, kX, h1, h2, h3⟩ := hE
  refine lv_aload_n hx hb dX8_init_0 rfl (lv_at hl 0 rfl) ?_
  refine y_exc0 X K hE htr0 O he hq h1 h2 h3 hl.1 (by decide) (by decide) dX8_init_1 (fun fs' H locs hlen O => ?_)
  refine lv_aload_n hx hb dX8_init_4 rfl (lv_at hl 0 rfl) ?_
  refine lv_iload_n hx hb dX8_init_5 rfl (lv_at hl 1 rfl) ?_
  refine x_putF (v := .int k) X K O 6 hnm.symm (ci := 14) up3_self rfl in_X8 tyX8_ok nmX8 (by decide) q637 rfl rfl rfl rfl (by rw [hlen]; decide) dX8_init_6 hq (fun H locs O => ?_)
  rw [up3_up3] at O
  refine lv_aload_n hx hb dX8_init_9 rfl (lv_at hl 0 rfl) ?_
  refine lv_iload_n hx hb dX8_init_10 rfl (lv_at hl 2 rfl) ?_
  refine x_putF (v := .int p0) X K O 7 hnm.symm (ci := 14) up3_self rfl in_X8 tyX8_ok nmX8 (by decide) q639 rfl rfl rfl rfl (by rw [List.length_set, hlen]; decide) dX8_init_11 hq (fun H locs O => ?_)
  rw [up3_up3] at O
  exact x_vret X O rfl _ ⟨by simp [hlen], by simp [hlen], by simp [hlen]⟩ rfl dX8_init_14
/-! results of methods that make cells and may throw -/
abbrev RX (α : Type) : Type := (PS × α) ⊕ (PS × Int32 × Int32)
def rN {α : Type} (z : RX α) : Nat := match z with
  | .inl q => q.1.2.1
  | .inr q => q.1.2.1
def bmp (u : PS) : PS := (u.1, u.2.1 + 1, u.2.2)
abbrev ctY (hs : IX) (d : Nat → ClassId) (u : PS) : CT := xct (LC u.1) (okC u.1) (hC hs) d u.2.2
def Yv (D : va_G) (hs : IX) (d : Nat → ClassId) (z : RX Unit) : (Nat → Prop) → Array Value → State → Outcome → State → Prop := fun A => va_Qv (fun u : PS => z = .inl (u, ())) (fun u t => XPo D A (hC hs, ctY hs d u) t ∧ t.heap.size = u.2.1) A
def Yi (D : va_G) (hs : IX) (d : Nat → ClassId) (z : RX Int32) : (Nat → Prop) → Array Value → State → Outcome → State → Prop := fun A => va_Qi (fun (r : Int32) (u : PS) => z = .inl (u, r)) (fun u t => XPo D A (hC hs, ctY hs d u) t ∧ t.heap.size = u.2.1) A
def Yr (D : va_G) (hs : IX) (d : Nat → ClassId) (z : RX Nat) : (Nat → Prop) → Array Value → State → Outcome → State → Prop := fun A => va_Qr (fun _ : PS => True) (fun u a t => z = .inl (u, a) ∧ XPo D A (hC hs, ctY hs d u) t ∧ t.heap.size = u.2.1) A
def YX {α : Type} (D : va_G) (hs : IX) (d : Nat → ClassId) (z : RX α) : (Nat → Prop) → Addr → String → State → State → Prop := fun A q E st t => E = "NotchSticks$Fault" ∧ ∃ (u : PS) (k p : Int32) (fs : List Value), z = .inr (u, k, p) ∧ fs.length = 8 ∧ fs[6]? = some (.int k) ∧ fs[7]? = some (.int p) ∧ ctY hs d u 25 q 0 = none ∧ XPo D A (hC hs, up3 (ctY hs d u) 25 q 0 (.inr (14, fs))) t ∧ va_F A st t
def YM {α : Type} (l : Launch) (D : va_G) (d : Nat → ClassId) (E : XE) (y : MethodName) (cc : ByteArray) (nL : Nat) (ret : Option FieldType) (dd : Nat) (av : List Value) (hs : IX) (u : PS) (z : RX α) (Qf : (Nat → Prop) → Array Value → State → Outcome → State → Prop) : Prop :=
  ∀ (ws : va_W), vy_Met l y (ws_ y cc nL ret) (rmD dd (rN z - u.2.1) (22 * (rN z - u.2.1))) (va_Pc av (XPre D d (hC hs) (ctY hs d u) E ws u.2.1)) (Qf (va_A ws u.2.1)) (YX D hs d z (va_A ws u.2.1)) (rN z - u.2.1) (22 * (rN z - u.2.1)) (va_A ws u.2.1)
theorem YM.of {α : Type} {l : Launch} {D : va_G} {d : Nat → ClassId} {E : XE} {y : MethodName} {cc : ByteArray} {nL : Nat} {ret : Option FieldType} {dd : Nat} {av : List Value} {hs : IX} {u : PS} {z : RX α} {Qf : (Nat → Prop) → Array Value → State → Outcome → State → Prop} (hy : plainName y.cls = true) (hn : (lg_sl av).length ≤ nL)
    (body : ∀ (p : Program) (e : Env) (s : State) (m : MethodId) (below : List Frame) (meth : Method) (c : Code) (A : Nat → Prop) (ls : Array Slot), FX p m c meth s av.toArray y.cls cc nL ret → (∀ x ∈ c.exceptionTable.toList, False) → XK D d A s → E A s → YH D A s.heap hs d u s.heap [] → lv_has ls nL (lv_args 0 av) → W p l e (rmD dd (rN z - u.2.1) (22 * (rN z - u.2.1))) s m av.toArray below meth c s.heap [] 0 0 (vy_MQ below (Qf A) (YX D hs d z A) av.toArray s (rN z - u.2.1) (22 * (rN z - u.2.1)) A) (F0 m 0 ls [])) : YM l D d E y cc nL ret dd av hs u z Qf := by
  intro ws
  refine vy_ofW (cc := cc) (maxL := nL) (ret := ret) hy rfl ?_
  intro p e s m args below meth c s₁ B hml ht hv
  obtain ⟨rfl, hsz, hP, hD, ⟨ix, r⟩, hK, hNW, hE⟩ := hv
  have hts := atoms_spec (ws := ws_ y cc nL ret) B.pre
  have hts : ∀ w ∈ lw_all, w.before _ s = true := fun w h => hts w (List.mem_cons_of_mem _ h)
  have hown : s.vm.findClass y.cls = some m.cls := findClass_of_methodNamed B.named
  have hl := lv_entry av (n := nL) hn
  rw [lg_entry_eq]
  have h9 := body p e s m below meth c (va_A ws s.heap.size) _ ⟨⟨B.exec, B.bytes, hml, hown, hts⟩, B.returns, B.notSynchronized⟩ ht ⟨hK, hNW, fun q hq => Or.inr hq⟩ (by rw [hsz]; exact hE) ⟨⟨ws, ix, hP, hD.self, va_S.rf, r⟩, hsz⟩ hl
  rw [hsz] at h9
  exact h9
