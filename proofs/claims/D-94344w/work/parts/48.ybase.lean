/-! plain binds with cells counted; rows for methods that make cells -/
def ckm {α : Type} (u : PS) (o : Option (RX α)) : Option (RX α) := match o with
  | none => none
  | some z => if u.2.1 ≤ rN z then some z else none
theorem ckm_s {α : Type} {u : PS} {o : Option (RX α)} {z : RX α} (h : ckm u o = some z) : u.2.1 ≤ rN z ∧ o = some z := by
  cases o with
  | none => cases h
  | some z' =>
    have h : (if u.2.1 ≤ rN z' then some z' else none) = some z := h
    by_cases hq : u.2.1 ≤ rN z'
    · rw [if_pos hq] at h
      cases h
      exact ⟨hq, rfl⟩
    · rw [if_neg hq] at h
      cases h
def bnx {α β : Type} (u : PS) (o : Option (RX α)) (f : PS → α → Option (RX β)) : Option (RX β) := match o with
  | none => none
  | some (.inr e) => ck (decide (u.2.1 ≤ e.1.2.1)) (some (.inr e))
  | some (.inl q) => ck (decide (u.2.1 ≤ q.1.2.1)) (ckm q.1 (f q.1 q.2))
theorem bnx_s {α β : Type} {u : PS} {o : Option (RX α)} {f : PS → α → Option (RX β)} {z : RX β} (h : bnx u o f = some z) : ∃ z' : RX α, o = some z' ∧ (u.2.1 ≤ rN z' ∧ rN z' ≤ rN z) ∧ (∀ e, z' = .inr e → z = .inr e) ∧ ∀ u1 r, z' = .inl (u1, r) → f u1 r = some z := by
  cases o with
  | none => cases h
  | some z' =>
    cases z' with
    | inr e =>
      have h : ck (decide (u.2.1 ≤ e.1.2.1)) (some (.inr e)) = some z := h
      obtain ⟨h1, h2⟩ := ck_s h
      cases h2
      exact ⟨_, rfl, ⟨of_decide_eq_true h1, Nat.le_refl _⟩, fun e' he => by cases he; rfl, fun u1 r he => by cases he⟩
    | inl q =>
      have h : ck (decide (u.2.1 ≤ q.1.2.1)) (ckm q.1 (f q.1 q.2)) = some z := h
      obtain ⟨h1, h2⟩ := ck_s h
      obtain ⟨h3, h4⟩ := ckm_s h2
      exact ⟨_, rfl, ⟨of_decide_eq_true h1, h3⟩, fun e' he => by (cases he), fun u1 r he => by cases he; exact h4⟩
def nwx {α : Type} (u : PS) (t x : Nat) (f : PS → Option (RX α)) : Option (RX α) := ckm (al u t x) (f (al u t x))
theorem nwx_s {α : Type} {u : PS} {t x : Nat} {f : PS → Option (RX α)} {z : RX α} (h : nwx u t x f = some z) : u.2.1 + 1 ≤ rN z ∧ ∃ u1, u1 = al u t x ∧ f u1 = some z := by
  obtain ⟨h1, h2⟩ := ckm_s h
  exact ⟨h1, _, rfl, h2⟩
def CB (s : State) (u : PS) (n cs sl : Nat) : Prop := s.heap.size ≤ u.2.1 ∧ u.2.1 ≤ n ∧ cs + s.heap.size ≤ u.2.1 ∧ sl ≤ 22 * cs
theorem CB.r {s : State} {u : PS} {n cs sl : Nat} (h : CB s u n cs sl) : cs + 0 ≤ n - s.heap.size ∧ sl + 0 ≤ 22 * (n - s.heap.size) := by
  obtain ⟨h1, h2, h3, h4⟩ := h
  omega
theorem CB.mv {s : State} {u u1 : PS} {n cs sl : Nat} {σ : ST} (h : CB s u n cs sl) (e : u1 = pss u σ) : CB s u1 n cs sl := by rw [e]; exact h
theorem CB.ev {s : State} {u u1 : PS} {n cs sl : Nat} (h : CB s u n cs sl) (e : u1 = u) : CB s u1 n cs sl := by rw [e]; exact h
theorem CB.c1 {s : State} {u : PS} {n cs sl : Nat} (h : CB s u n cs sl) (hm : u.2.1 + 1 ≤ n) : cs + 1 ≤ n - s.heap.size := by
  obtain ⟨h1, h2, h3, h4⟩ := h
  omega
theorem CB.s1 {s : State} {u : PS} {n cs sl N : Nat} (h : CB s u n cs sl) (hm : u.2.1 + 1 ≤ n) (hN : N ≤ 22) : sl + N ≤ 22 * (n - s.heap.size) := by
  obtain ⟨h1, h2, h3, h4⟩ := h
  omega
theorem CB.al {s : State} {u : PS} {n cs sl N t x : Nat} (h : CB s u n cs sl) (hm : u.2.1 + 1 ≤ n) (hN : N ≤ 22) : CB s (al u t x) n (cs + 1) (sl + N) := by
  obtain ⟨h1, h2, h3, h4⟩ := h
  refine ⟨?_, ?_, ?_, ?_⟩
  · show s.heap.size ≤ u.2.1 + 1; omega
  · exact hm
  · show cs + 1 + s.heap.size ≤ u.2.1 + 1; omega
  · omega
theorem CB.cl {s : State} {u u1 : PS} {n cs sl n' : Nat} (h : CB s u n cs sl) (hm : u.2.1 ≤ n' ∧ n' ≤ n) (hu : n' = u1.2.1) : CB s u1 n (cs + (n' - u.2.1)) (sl + 22 * (n' - u.2.1)) := by
  obtain ⟨h1, h2, h3, h4⟩ := h
  refine ⟨?_, ?_, ?_, ?_⟩ <;> omega
theorem CB.cr {s : State} {u : PS} {n cs sl n' : Nat} (h : CB s u n cs sl) (hm : u.2.1 ≤ n' ∧ n' ≤ n) : cs + (n' - u.2.1) ≤ n - s.heap.size ∧ sl + 22 * (n' - u.2.1) ≤ 22 * (n - s.heap.size) := by
  obtain ⟨h1, h2, h3, h4⟩ := h
  omega
section ZY
variable {p : Program} {l : Launch} {e : Env} {R : Room} {s : State} {m : MethodId} {args : Array Value} {below : List Frame} {meth : Method} {c : Code} {H : Heap} {locs : List Loc} {cells slots : Nat} {Q : State → Prop}
variable {cc : ByteArray} {nL : Nat} {ret : Option FieldType} {own : String} {pc : Nat} {ls : Array Slot} {rest : List Value} {D : va_G} {A : Nat → Prop} {hs : IX} {d : Nat → ClassId} {u : PS}
theorem W.up {g : JFrame} {c1 c2 : Nat} (h1 : cells ≤ c1) (h2 : slots ≤ c2) (k : W p l e R s m args below meth c H locs c1 c2 Q g) : W p l e R s m args below meth c H locs cells slots Q g := fun T hT X => k T hT { X with same := X.same.mono h1 h2 }
theorem XH.self {h : IX} {ct : CT} {H0 : Heap} (O : XH D A H0 h ct H locs) : XH D A H h ct H locs := by
  obtain ⟨ws, ix, hP, hD, hS, r⟩ := O
  exact ⟨ws, ix, hP, hD, ⟨Nat.le_refl _, fun _ _ _ => rfl, hS.2.2⟩, r⟩
theorem YH.put (O : YH D A s.heap hs d u H locs) {σ1 : ST} {H1 : Heap} {locs1 : List Loc} (O1 : XH D A H (hC hs) (xct (LC u.1) (okC u.1) (hC hs) d σ1) H1 locs1) {n : Nat} (hb : CB s u n cells slots) (hz : H1.size ≤ s.heap.size + cells) : YH D A s.heap hs d (pss u σ1) H1 locs1 := by
  obtain ⟨⟨ws, ix, hP, hD, hS, r⟩, hsz⟩ := O
  obtain ⟨ws1, ix1, hP1, hD1, hS1, r1⟩ := O1
  refine ⟨⟨ws1, ix1, hP1, hD1, ⟨Nat.le_trans hS.1 hS1.1, fun x h1 h2 => (hS1.2.1 x (Nat.lt_of_lt_of_le h1 hS.1) h2).trans (hS.2.1 x h1 h2), hS1.2.2⟩, r1⟩, ?_⟩
  have h1 := hS1.1
  obtain ⟨b1, b2, b3, b4⟩ := hb
  show H1.size = u.2.1
  omega
theorem YH.call (O : YH D A s.heap hs d u H locs) {σ1 : ST} {H1 : Heap} {locs1 : List Loc} (O1 : XH D A s.heap (hC hs) (xct (LC u.1) (okC u.1) (hC hs) d σ1) H1 locs1) (hle : H.size ≤ H1.size) {n : Nat} (hb : CB s u n cells slots) (hz : H1.size ≤ s.heap.size + cells) : YH D A s.heap hs d (pss u σ1) H1 locs1 := by
  refine ⟨O1, ?_⟩
  obtain ⟨b1, b2, b3, b4⟩ := hb
  have h1 := O.2
  show H1.size = u.2.1
  omega
theorem YH.lt {H0 : Heap} (O : YH D A H0 hs d u H locs) {t a x : Nat} (ht : 20 ≤ t) (h : u.1 t a = some x) : a < u.2.1 := by
  obtain ⟨⟨ws, ix, hP, hD, hS, r⟩, hz⟩ := O
  have hok : okC u.1 t a 0 = true := by rw [okC_hi ht, h]; rfl
  have h1 := (hP _ _ (r.1 t a 0 _ (xct_some hok))).lt
  have h2 : hC hs t a 0 < H.size := h1
  rw [hC_id ht] at h2
  omega
theorem YH.keep {H0 : Heap} (O : YH D A H0 hs d u H locs) {t x t' a x' : Nat} (ht : 20 ≤ t') (h : u.1 t' a = some x') : dup u.1 t u.2.1 x t' a = some x' := by
  rw [dup_ne (fun q => by have := O.lt ht h; omega)]
  exact h
theorem y_vret (X : FX p m c meth s args own cc nL ret) (O : YH D A s.heap hs d u H locs) {z : RX Unit} (hb : CB s u (rN z) cells slots) (hret : ret = none) (hz : z = .inl (u, ())) (hdg : decode cc pc = .ok (.return_, 1)) : W p l e R s m args below meth c H locs cells slots (vy_MQ below (Yv D hs d z A) (YX D hs d z A) args s (rN z - s.heap.size) (22 * (rN z - s.heap.size)) A) (F0 m pc ls []) := by
  obtain ⟨⟨ws, ix, hP, hD, hS, r⟩, hsz⟩ := O
  have hlocks := X.2.2
  exact vy_ret (W.up hb.r.1 hb.r.2 (W.vret X.1.1 X.1.2.1 (X.2.1.trans hret) (fun t ht hW => ⟨⟨u, rfl, hz, ⟨ws, ix, by rw [ht]; exact hP, hD, r⟩, by rw [ht]; exact hsz⟩, hS.F ht⟩) hS.2.2 hdg))
theorem y_iret (X : FX p m c meth s args own cc nL ret) (O : YH D A s.heap hs d u H locs) {z : RX Int32} (hb : CB s u (rN z) cells slots) (hret : ret = some .int) {v : Int32} (hz : z = .inl (u, v)) (hdg : decode cc pc = .ok (.ireturn, 1)) : W p l e R s m args below meth c H locs cells slots (vy_MQ below (Yi D hs d z A) (YX D hs d z A) args s (rN z - s.heap.size) (22 * (rN z - s.heap.size)) A) (F0 m pc ls [.int v]) := by
  obtain ⟨⟨ws, ix, hP, hD, hS, r⟩, hsz⟩ := O
  have hlocks := X.2.2
  exact vy_ret (W.up hb.r.1 hb.r.2 (W.iret X.1.1 X.1.2.1 (X.2.1.trans hret) (fun t ht hW => ⟨⟨v, u, rfl, hz, ⟨ws, ix, by rw [ht]; exact hP, hD, r⟩, by rw [ht]; exact hsz⟩, hS.F ht⟩) hS.2.2 hdg))
theorem y_zret (X : FX p m c meth s args own cc nL ret) (O : YH D A s.heap hs d u H locs) {z : RX Int32} (hb : CB s u (rN z) cells slots) (hret : ret = some .boolean) {v : Int32} (hn : narrow .boolean (.int v) = .int v) (hz : z = .inl (u, v)) (hdg : decode cc pc = .ok (.ireturn, 1)) : W p l e R s m args below meth c H locs cells slots (vy_MQ below (Yi D hs d z A) (YX D hs d z A) args s (rN z - s.heap.size) (22 * (rN z - s.heap.size)) A) (F0 m pc ls [.int v]) := by
  obtain ⟨⟨ws, ix, hP, hD, hS, r⟩, hsz⟩ := O
  have hlocks := X.2.2
  exact vy_ret (W.up hb.r.1 hb.r.2 (W.zret X.1.1 X.1.2.1 (X.2.1.trans hret) hn (fun t ht hW => ⟨⟨v, u, rfl, hz, ⟨ws, ix, by rw [ht]; exact hP, hD, r⟩, by rw [ht]; exact hsz⟩, hS.F ht⟩) hS.2.2 hdg))
theorem y_aret (X : FX p m c meth s args own cc nL ret) (O : YH D A s.heap hs d u H locs) {z : RX Nat} (hb : CB s u (rN z) cells slots) {rt : FieldType} (hret : ret = some rt) (hrr : (∃ n, rt = FieldType.object n) ∨ ∃ t, rt = FieldType.array t) {v : Nat} (hz : z = .inl (u, v)) (hdg : decode cc pc = .ok (.areturn, 1)) : W p l e R s m args below meth c H locs cells slots (vy_MQ below (Yr D hs d z A) (YX D hs d z A) args s (rN z - s.heap.size) (22 * (rN z - s.heap.size)) A) (F0 m pc ls [.ref v]) := by
  obtain ⟨⟨ws, ix, hP, hD, hS, r⟩, hsz⟩ := O
  have hlocks := X.2.2
  exact vy_ret (W.up hb.r.1 hb.r.2 (W.aret X.1.1 X.1.2.1 (X.2.1.trans hret) hrr (Or.inr ⟨v, rfl⟩) (fun t ht hW => ⟨⟨u, v, rfl, trivial, hz, ⟨ws, ix, by rw [ht]; exact hP, hD, r⟩, by rw [ht]; exact hsz⟩, hS.F ht⟩) hS.2.2 hdg))
theorem YM.of2 {α : Type} {y : MethodName} {E : XE} {dd : Nat} {av : List Value} {z : RX α} {Qf : (Nat → Prop) → Array Value → State → Outcome → State → Prop} (hm : u.2.1 ≤ rN z) (hy : plainName y.cls = true) (hn : (lg_sl av).length ≤ nL)
    (body : ∀ (p : Program) (e : Env) (s : State) (m : MethodId) (below : List Frame) (meth : Method) (c : Code) (A : Nat → Prop) (ls : Array Slot), FX p m c meth s av.toArray y.cls cc nL ret → (∀ x ∈ c.exceptionTable.toList, False) → XK D d A s → E A s → YH D A s.heap hs d u s.heap [] → CB s u (rN z) 0 0 → lv_has ls nL (lv_args 0 av) → W p l e (rmD dd (rN z - s.heap.size) (22 * (rN z - s.heap.size))) s m av.toArray below meth c s.heap [] 0 0 (vy_MQ below (Qf A) (YX D hs d z A) av.toArray s (rN z - s.heap.size) (22 * (rN z - s.heap.size)) A) (F0 m 0 ls [])) : YM l D d E y cc nL ret dd av hs u z Qf := by
  refine YM.of hy hn (fun p e s m below meth c A ls X ht K hE O hl => ?_)
  have hz := O.2
  have h9 := body p e s m below meth c A ls X ht K hE O ⟨Nat.le_of_eq hz, hm, by omega, by omega⟩ hl
  rw [hz] at h9
  exact h9
theorem y_throw2 {β : Type} {adK adV : Nat → Nat} {e0 dd : Nat} (X : FX p m c meth s args RX7 cc nL ret) (K : XK D d A s) (hE : ES adK adV e0 A s) (htr0 : l.stackTraces = false) (htab : ∀ x ∈ c.exceptionTable.toList, False) (O : YH D A s.heap hs d u H locs) {v kk : Nat} {z : RX β} (hb : CB s u (rN z) cells slots) {Qg : Array Value → State → Outcome → State → Prop} {k : Int32} {ki : Int} {lv : List (Nat × Value)} (hk : okC u.1 24 v 0 = true) (hl : lv_has ls nL lv) (h0 : lv[kk]? = some (0, .ref (hC hs 24 v 0))) (hki : Int32.ofInt ki = k) (hdd : 4 < dd) (hz : z = .inr (bmp u, k, gI u.2.2 24 v 0 2)) (d0 : decode cc pc = .ok (.new 124, 3)) (d3 : decode cc (pc + 3) = .ok (.dup, 1)) (d4 : decode cc (pc + 4) = .ok (.iconst ki, 1)) (d5 : decode cc (pc + 5) = .ok (.aload_n 0, 1)) (d6 : decode cc (pc + 6) = .ok (.getfield 38, 3)) (d9 : decode cc (pc + 9) = .ok (.invokespecial 126, 3)) (d12 : decode cc (pc + 12) = .ok (.athrow, 1)) : W p l e (rmD dd (rN z - s.heap.size) (22 * (rN z - s.heap.size))) s m args below meth c H locs cells slots (vy_MQ below Qg (YX D hs d z A) args s (rN z - s.heap.size) (22 * (rN z - s.heap.size)) A) (F0 m pc ls []) := by
  have hn : rN z = u.2.1 + 1 := by rw [hz]; rfl
  exact y_throw X K hE htr0 htab O hk hl h0 hki hdd (hb.c1 (by omega)) (by have := hb.s1 (N := 8) (by omega) (by decide); exact this) hz d0 d3 d4 d5 d6 d9 d12
theorem ic_X10 : (Cond.instantiable RX10 1) ∈ lw_all ∧ (Cond.initialized RX10) ∈ lw_all := ⟨q682, q134⟩
theorem y_new_X10 (X : FX p m c meth s args RX7 cc nL ret) (K : XK D d A s) (O : YH D A s.heap hs d u H locs) {n dd : Nat} (hb : CB s u n cells slots) (hm : u.2.1 + 1 ≤ n) {idx : Nat} (hcl : Cond.classLink RX7 idx RX10 ∈ lw_all) (hdg : decode cc pc = .ok (.new idx, 3))
    (kk : ∀ H1 : Heap, YH D A s.heap hs d (al u 23 8) H1 locs → W p l e (rmD dd (n - s.heap.size) (22 * (n - s.heap.size))) s m args below meth c H1 locs (cells + 1) (slots + 1) Q (F0 m (pc + 3) ls (.ref (hC hs 23 u.2.1 0) :: rest))) : W p l e (rmD dd (n - s.heap.size) (22 * (n - s.heap.size))) s m args below meth c H locs cells slots Q (F0 m pc ls rest) := by
  refine y_new X K O 23 8 (by decide) (LC_23 dup_self) rfl in_X10 tyX10_ok hcl ic_X10.1 ic_X10.2 (fun j hj => ?_) (hb.c1 hm) (hb.s1 (N := 1) hm (by decide)) hdg kk
  have e1 : ∀ k, gI (clr u.2.2 23 u.2.1) 23 u.2.1 0 k = 0 := fun k => gI_clrS
  have e2 : ∀ k, gR (clr u.2.2 23 u.2.1) 23 u.2.1 0 k = 0 := fun k => gR_clrS
  match j, hj with
  | 0, _ => show Value.null = va_rf (if gR (clr u.2.2 23 u.2.1) 23 u.2.1 0 0 = 0 then none else some (hC hs 23 (gR (clr u.2.2 23 u.2.1) 23 u.2.1 0 0 - 1) 0)); rw [e2, if_pos rfl]; rfl
  | k + 1, hj => exact absurd hj (by omega)
theorem ic_X11 : (Cond.instantiable RX11 1) ∈ lw_all ∧ (Cond.initialized RX11) ∈ lw_all := ⟨q707, q135⟩
theorem y_new_X11 (X : FX p m c meth s args RX7 cc nL ret) (K : XK D d A s) (O : YH D A s.heap hs d u H locs) {n dd : Nat} (hb : CB s u n cells slots) (hm : u.2.1 + 1 ≤ n) {idx : Nat} (hcl : Cond.classLink RX7 idx RX11 ∈ lw_all) (hdg : decode cc pc = .ok (.new idx, 3))
    (kk : ∀ H1 : Heap, YH D A s.heap hs d (al u 23 9) H1 locs → W p l e (rmD dd (n - s.heap.size) (22 * (n - s.heap.size))) s m args below meth c H1 locs (cells + 1) (slots + 1) Q (F0 m (pc + 3) ls (.ref (hC hs 23 u.2.1 0) :: rest))) : W p l e (rmD dd (n - s.heap.size) (22 * (n - s.heap.size))) s m args below meth c H locs cells slots Q (F0 m pc ls rest) := by
  refine y_new X K O 23 9 (by decide) (LC_23 dup_self) rfl in_X11 tyX11_ok hcl ic_X11.1 ic_X11.2 (fun j hj => ?_) (hb.c1 hm) (hb.s1 (N := 1) hm (by decide)) hdg kk
  have e1 : ∀ k, gI (clr u.2.2 23 u.2.1) 23 u.2.1 0 k = 0 := fun k => gI_clrS
  have e2 : ∀ k, gR (clr u.2.2 23 u.2.1) 23 u.2.1 0 k = 0 := fun k => gR_clrS
  match j, hj with
  | 0, _ => show Value.int 0 = .int (gI (clr u.2.2 23 u.2.1) 23 u.2.1 0 0); rw [e1]
  | k + 1, hj => exact absurd hj (by omega)
theorem ic_X12 : (Cond.instantiable RX12 1) ∈ lw_all ∧ (Cond.initialized RX12) ∈ lw_all := ⟨q721, q136⟩
theorem y_new_X12 (X : FX p m c meth s args RX7 cc nL ret) (K : XK D d A s) (O : YH D A s.heap hs d u H locs) {n dd : Nat} (hb : CB s u n cells slots) (hm : u.2.1 + 1 ≤ n) {idx : Nat} (hcl : Cond.classLink RX7 idx RX12 ∈ lw_all) (hdg : decode cc pc = .ok (.new idx, 3))
    (kk : ∀ H1 : Heap, YH D A s.heap hs d (al u 23 10) H1 locs → W p l e (rmD dd (n - s.heap.size) (22 * (n - s.heap.size))) s m args below meth c H1 locs (cells + 1) (slots + 1) Q (F0 m (pc + 3) ls (.ref (hC hs 23 u.2.1 0) :: rest))) : W p l e (rmD dd (n - s.heap.size) (22 * (n - s.heap.size))) s m args below meth c H locs cells slots Q (F0 m pc ls rest) := by
  refine y_new X K O 23 10 (by decide) (LC_23 dup_self) rfl in_X12 tyX12_ok hcl ic_X12.1 ic_X12.2 (fun j hj => ?_) (hb.c1 hm) (hb.s1 (N := 1) hm (by decide)) hdg kk
  have e1 : ∀ k, gI (clr u.2.2 23 u.2.1) 23 u.2.1 0 k = 0 := fun k => gI_clrS
  have e2 : ∀ k, gR (clr u.2.2 23 u.2.1) 23 u.2.1 0 k = 0 := fun k => gR_clrS
  match j, hj with
  | 0, _ => show Value.int 0 = .int (gI (clr u.2.2 23 u.2.1) 23 u.2.1 0 0); rw [e1]
  | k + 1, hj => exact absurd hj (by omega)
theorem ic_X13 : (Cond.instantiable RX13 3) ∈ lw_all ∧ (Cond.initialized RX13) ∈ lw_all := ⟨q731, q137⟩
theorem y_new_X13 (X : FX p m c meth s args RX7 cc nL ret) (K : XK D d A s) (O : YH D A s.heap hs d u H locs) {n dd : Nat} (hb : CB s u n cells slots) (hm : u.2.1 + 1 ≤ n) {idx : Nat} (hcl : Cond.classLink RX7 idx RX13 ∈ lw_all) (hdg : decode cc pc = .ok (.new idx, 3))
    (kk : ∀ H1 : Heap, YH D A s.heap hs d (al u 23 11) H1 locs → W p l e (rmD dd (n - s.heap.size) (22 * (n - s.heap.size))) s m args below meth c H1 locs (cells + 1) (slots + 3) Q (F0 m (pc + 3) ls (.ref (hC hs 23 u.2.1 0) :: rest))) : W p l e (rmD dd (n - s.heap.size) (22 * (n - s.heap.size))) s m args below meth c H locs cells slots Q (F0 m pc ls rest) := by
  refine y_new X K O 23 11 (by decide) (LC_23 dup_self) rfl in_X13 tyX13_ok hcl ic_X13.1 ic_X13.2 (fun j hj => ?_) (hb.c1 hm) (hb.s1 (N := 3) hm (by decide)) hdg kk
  have e1 : ∀ k, gI (clr u.2.2 23 u.2.1) 23 u.2.1 0 k = 0 := fun k => gI_clrS
  have e2 : ∀ k, gR (clr u.2.2 23 u.2.1) 23 u.2.1 0 k = 0 := fun k => gR_clrS
  match j, hj with
  | 0, _ => show Value.null = va_rf (if gR (clr u.2.2 23 u.2.1) 23 u.2.1 0 0 = 0 then none else some (hC hs 23 (gR (clr u.2.2 23 u.2.1) 23 u.2.1 0 0 - 1) 0)); rw [e2, if_pos rfl]; rfl
  | 1, _ => show Value.null = va_rf (if gR (clr u.2.2 23 u.2.1) 23 u.2.1 0 1 = 0 then none else some (hC hs 23 (gR (clr u.2.2 23 u.2.1) 23 u.2.1 0 1 - 1) 0)); rw [e2, if_pos rfl]; rfl
  | 2, _ => show Value.int 0 = .int (gI (clr u.2.2 23 u.2.1) 23 u.2.1 0 2); rw [e1]
  | k + 3, hj => exact absurd hj (by omega)
theorem ic_X14 : (Cond.instantiable RX14 2) ∈ lw_all ∧ (Cond.initialized RX14) ∈ lw_all := ⟨q747, q138⟩
theorem y_new_X14 (X : FX p m c meth s args RX7 cc nL ret) (K : XK D d A s) (O : YH D A s.heap hs d u H locs) {n dd : Nat} (hb : CB s u n cells slots) (hm : u.2.1 + 1 ≤ n) {idx : Nat} (hcl : Cond.classLink RX7 idx RX14 ∈ lw_all) (hdg : decode cc pc = .ok (.new idx, 3))
    (kk : ∀ H1 : Heap, YH D A s.heap hs d (al u 22 0) H1 locs → W p l e (rmD dd (n - s.heap.size) (22 * (n - s.heap.size))) s m args below meth c H1 locs (cells + 1) (slots + 2) Q (F0 m (pc + 3) ls (.ref (hC hs 22 u.2.1 0) :: rest))) : W p l e (rmD dd (n - s.heap.size) (22 * (n - s.heap.size))) s m args below meth c H locs cells slots Q (F0 m pc ls rest) := by
  refine y_new X K O 22 0 (by decide) (LC_22) rfl in_X14 tyX14_ok hcl ic_X14.1 ic_X14.2 (fun j hj => ?_) (hb.c1 hm) (hb.s1 (N := 2) hm (by decide)) hdg kk
  have e1 : ∀ k, gI (clr u.2.2 22 u.2.1) 22 u.2.1 0 k = 0 := fun k => gI_clrS
  have e2 : ∀ k, gR (clr u.2.2 22 u.2.1) 22 u.2.1 0 k = 0 := fun k => gR_clrS
  match j, hj with
  | 0, _ => show Value.int 0 = .int (gI (clr u.2.2 22 u.2.1) 22 u.2.1 0 0); rw [e1]
  | 1, _ => show Value.null = va_rf (if gR (clr u.2.2 22 u.2.1) 22 u.2.1 0 1 = 0 then none else some (hC hs 23 (gR (clr u.2.2 22 u.2.1) 22 u.2.1 0 1 - 1) 0)); rw [e2, if_pos rfl]; rfl
  | k + 2, hj => exact absurd hj (by omega)
end ZY
