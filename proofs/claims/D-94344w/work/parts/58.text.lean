/-! text: a reader is made, it reads, a Fault is caught -/
theorem hdS_X7_init : (yX7_init.cls ≠ "java/lang/invoke/MethodHandle" ∧ yX7_init.cls ≠ "java/lang/invoke/VarHandle" ∧ (parseMethodDescriptor yX7_init.desc).map (fun d => d.parameters.length) = some 2) := by decide +kernel
theorem hdV_X7_read : yX7_read.cls = RX7 ∧ (yX7_read.cls ≠ "java/lang/invoke/MethodHandle" ∧ yX7_read.cls ≠ "java/lang/invoke/VarHandle" ∧ (parseMethodDescriptor yX7_read.desc).map (fun d => d.parameters.length) = some 0) := by decide +kernel
theorem hdV_J2_set : yJ2_set.cls = RJ2 ∧ (yJ2_set.cls ≠ "java/lang/invoke/MethodHandle" ∧ yJ2_set.cls ≠ "java/lang/invoke/VarHandle" ∧ (parseMethodDescriptor yJ2_set.desc).map (fun d => d.parameters.length) = some 2) := by decide +kernel
theorem m_X7_init {l : Launch} {D : va_G} {d : Nat → ClassId} {h : IX} {ct : CT} {q w : Nat} {b : Int32} {fs : List Value} (hn : narrow .boolean (.int b) = .int b) (hft : fits .boolean (.int b) = true) (he : ct 24 q 0 = some (.inr (7, fs))) (hfl : fs.length = 7) : XM l D d EN yX7_init cX7_init 3 none 2 0 0 [.ref (h 24 q 0), .ref w, .int b] h ct (Qv D (fun _ : Unit => True) (fun _ => (h, up3 ct 24 q 0 (.inr (7, (fs.set 6 (.ref w)).set 0 (.int b)))))) := by
  refine XM.of (by decide +kernel) (Nat.le_of_ble_eq_true rfl) ?_
  intro p e s m below meth c A ls X hnm K _ O hl
  have hl : lv_has ls 3 [(0, .ref (h 24 q 0)), (1, .ref w), (2, .int b)] := hl
  have hx := X.1.1; have hb := X.1.2.1
  refine lv_aload_n hx hb dX7_init_0 rfl (lv_at hl 0 rfl) ?_
  refine lv_aload_n hx hb dX7_init_1 rfl (lv_at hl 1 rfl) ?_
  refine x_putF (v := .ref w) X K O 6 hnm.symm (ci := 7) he rfl in_X7 tyX7_ok nmX7 (by decide) q464 rfl rfl rfl rfl (by rw [hfl]; decide) dX7_init_2 rfl (fun H locs O => ?_)
  refine lv_aload_n hx hb dX7_init_5 rfl (lv_at hl 0 rfl) ?_
  refine W.objInit hx hb X.1.2.2.2.1 (X.1.2.2.2.2 _ q457) (X.1.2.2.2.2 _ q146) (X.1.2.2.2.2 _ q147) rfl (hl.1.trans X.1.2.2.1.symm) rfl dX7_init_6 (Nat.le_of_ble_eq_true rfl) (Nat.le_of_ble_eq_true rfl) ?_
  refine lv_aload_n hx hb dX7_init_9 rfl (lv_at hl 0 rfl) ?_
  refine lv_iload_n hx hb dX7_init_10 rfl (lv_at hl 2 rfl) ?_
  refine x_putF (v := .int b) X K O 0 hnm.symm (ci := 7) up3_self rfl in_X7 tyX7_ok nmX7 (by decide) q458 rfl rfl hn hft (by rw [List.length_set, hfl]; decide) dX7_init_11 rfl (fun H locs O => ?_)
  rw [up3_up3] at O
  exact x_vret X O rfl () trivial rfl dX7_init_14
section ZT
variable {p : Program} {l : Launch} {e : Env} {R : Room} {s : State} {m : MethodId} {args : Array Value} {below : List Frame} {meth : Method} {c : Code} {H : Heap} {locs : List Loc} {cells slots : Nat} {Q : State → Prop}
variable {cc : ByteArray} {nL : Nat} {ret : Option FieldType} {own : String} {pc : Nat} {ls : Array Slot} {rest : List Value} {D : va_G} {A : Nat → Prop} {hs : IX} {d : Nat → ClassId} {u : PS} {H0 : Heap}
theorem up3_comm {ct : CT} {t a b t' a' b' : Nat} {e1 e2 : va_E} (hne : ¬ (t' = t ∧ a' = a ∧ b' = b)) : up3 (up3 ct t a b e1) t' a' b' e2 = up3 (up3 ct t' a' b' e2) t a b e1 := by
  funext x y z
  unfold up3
  by_cases h1 : x = t' ∧ y = a' ∧ z = b'
  · rw [if_pos h1, if_neg (fun h2 => hne ⟨h1.1.symm.trans h2.1, h1.2.1.symm.trans h2.2.1, h1.2.2.symm.trans h2.2.2⟩), if_pos h1]
  · rw [if_neg h1]
    by_cases h2 : x = t ∧ y = a ∧ z = b
    · rw [if_pos h2, if_pos h2]
    · rw [if_neg h2, if_neg h2, if_neg h1]
theorem XH.drop {h : IX} {ct : CT} {t a b : Nat} {e1 : va_E} (O : XH D A H0 h (up3 ct t a b e1) H locs) (hn : ct t a b = none) : XH D A H0 h ct H locs := by
  obtain ⟨ws, ix, hP, hD, hS, r⟩ := O
  have key : ∀ x y z e', ct x y z = some e' → up3 ct t a b e1 x y z = some e' := by
    intro x y z e' he
    unfold up3
    rw [if_neg]
    · exact he
    · rintro ⟨rfl, rfl, rfl⟩
      rw [hn] at he
      cases he
  have key2 : ∀ x y z, (ct x y z).isSome = true → (up3 ct t a b e1 x y z).isSome = true := by
    intro x y z hs
    obtain ⟨e', he'⟩ := Option.isSome_iff_exists.mp hs
    rw [key _ _ _ _ he']; rfl
  exact ⟨ws, ix, hP, hD, hS, fun x y z e' he => r.1 x y z e' (key _ _ _ _ he), fun x y z x' y' z' h1 h2 => r.2 x y z x' y' z' (key2 _ _ _ h1) (key2 _ _ _ h2)⟩
theorem y_newct (X : FX p m c meth s args own cc nL ret) (K : XK D d A s) (O : YH D A s.heap hs d u H locs) (t : Nat) {ci N idx : Nat} {C : String} {T : u_T} {ty : Nat → FieldType} {fs : List Value} (ht : 20 ≤ t) (hc : vwCl[ci]? = some (C, T, N)) (hin : ∀ w ∈ u_ws C T N, w ∈ lw_all) (hty : ∀ k, k < N → parseFieldDescriptor (T k).2.2.1 = some (ty k)) (hcl : Cond.classLink own idx C ∈ lw_all) (hinst : Cond.instantiable C N ∈ lw_all) (hini : Cond.initialized C ∈ lw_all) (hdef : ∀ j, j < N → defaultValue (ty j) = vp_V fs j) (hcells : cells + 1 ≤ R.cells) (hslots : slots + N ≤ R.slots) (hdg : decode cc pc = .ok (.new idx, 3))
    (kk : ∀ H1 : Heap, u.1 t u.2.1 = none → XH D A s.heap (hC hs) (up3 (ctY hs d u) t u.2.1 0 (.inr (ci, fs))) H1 locs → H1.size = u.2.1 + 1 → W p l e R s m args below meth c H1 locs (cells + 1) (slots + N) Q (F0 m (pc + 3) ls (.ref u.2.1 :: rest))) : W p l e R s m args below meth c H locs cells slots Q (F0 m pc ls rest) := by
  obtain ⟨⟨ws, ix, hP, hD, hS, r⟩, hz⟩ := O
  have hKn := K.1.1 ci _ hc
  have hfresh : u.1 t u.2.1 = none := by
    cases hh : u.1 t u.2.1 with
    | none => rfl
    | some x0 =>
      have hok : okC u.1 t u.2.1 0 = true := by rw [okC_hi ht, hh]; rfl
      have h1 := (hP _ _ (r.1 t u.2.1 0 _ (xct_some hok))).lt
      have h2 : hC hs t u.2.1 0 < H.size := h1
      rw [hC_id ht] at h2
      omega
  have hnone : xct (LC u.1) (okC u.1) (hC hs) d u.2.2 t u.2.1 0 = none := by
    unfold xct
    rw [okC_hi ht, hfresh]; rfl
  refine W.newcK X.1.1 X.1.2.1 X.1.2.2.2.1 (X.1.2.2.2.2 _ hcl) (X.1.2.2.2.2 _ hinst) (X.1.2.2.2.2 _ hini) rfl hdg hcells hslots hKn.2.1 rfl fun H1 kC hkC e1 z1 o1 => ?_
  have hk : ∀ (k : Nat) (x : Nat × va_E), ws[k]? = some x → H1[x.1]? = H[x.1]? := fun k x hx => o1 x.1 ((hP k x hx).lt)
  have hq : hC hs t u.2.1 0 = H.size := by rw [hC_id ht, hz]
  obtain ⟨ix', r'⟩ := r.push (e := .inr (ci, fs)) hnone hq
  have h9 := kk H1 hfresh ⟨ws ++ [(H.size, .inr (ci, fs))], ix', (hP.kept hk).app (fun k x hx => by
      have hz9 : k < 1 := (List.getElem?_eq_some_iff.mp hx).1
      rw [show k = 0 by omega] at hx
      cases hx
      exact ⟨_, hc, (u_born ty X.1.2.2.2.2 hin hKn hkC e1 hty).to hdef⟩), hD.push hP rfl (K.2.2 _ hS.1), ⟨Nat.le_trans hS.1 (by omega), fun x h1 h2 => (o1 x (Nat.lt_of_lt_of_le h1 hS.1)).trans (hS.2.1 x h1 h2), hS.2.2⟩, r'⟩ (by omega)
  rw [← hz] at h9
  exact h9
/-- a call that may throw, with the way on after a throw -/
theorem y_callG {st0 : List Value} {z' : RX Nat} {av : Array Value} (hr : ∃ ws : va_W, va_D A ws ∧ va_S A s.heap H locs ∧ (∀ q, va_A ws H.size q → A q) ∧ vy_Run p l e R s m args below meth c H locs cells slots (rN z' - u.2.1) (22 * (rN z' - u.2.1)) (F0 m pc ls st0) rest (Yr D hs d z' (va_A ws H.size) av) (YX D hs d z' (va_A ws H.size)) (va_A ws H.size))
    (kk : ∀ (r : Nat) (u1 : PS) (H1 : Heap) (locs1 : List Loc), z' = .inl (u1, r) → YH D A s.heap hs d u1 H1 locs1 → W p l e R s m args below meth c H1 locs1 (cells + (rN z' - u.2.1)) (slots + 22 * (rN z' - u.2.1)) Q (F0 m (pc + 3) ls (.ref r :: rest)))
    (kx : ∀ (q : Nat) (u1 : PS) (k p0 : Int32) (fs : List Value) (H1 : Heap) (locs1 : List Loc) (ce : Cell), z' = .inr (u1, k, p0) → fs[6]? = some (.int k) → fs[7]? = some (.int p0) → ctY hs d u1 25 q 0 = none → XH D A s.heap (hC hs) (up3 (ctY hs d u1) 25 q 0 (.inr (14, fs))) H1 locs1 → H1[q]? = some ce → ce.vm = .none → s.vm.findClass "NotchSticks$Fault" = some ce.cls → vx_W p l e R s m args below meth c H1 locs1 (cells + (rN z' - u.2.1)) (slots + 22 * (rN z' - u.2.1)) Q (F0 m pc ls rest) q) : W p l e R s m args below meth c H locs cells slots Q (F0 m pc ls st0) := by
  obtain ⟨ws, hD, hS, hFc, hrun⟩ := hr
  intro T hT X
  rcases hrun T hT X with ⟨v, st₀, t, T', L, h0, X', hL, e1, e2, hq, st⟩ | ⟨q, st₀, t, T', L, E, ce, h0, X', hL, e1, e2, hx, hce, hcv, hcl, st⟩
  · obtain ⟨⟨u1, r, hv, -, hp, hB, hsz⟩, hF⟩ := hq
    cases hv
    obtain ⟨k1, k2, k3⟩ := vx_keep (A1 := va_A ws H.size) h0 e1 hS (fun q _ h => hFc q h) hFc hL hF
    obtain ⟨ws', ix', h1, h2, h3⟩ := hB
    rw [← e1] at h1 hsz
    obtain ⟨t2, a1, b1⟩ := kk r u1 T'.heap (locs ++ L) hp ⟨⟨ws', ix', h1, h2.weaken (fun _ _ _ h => hFc _ h), k3, h3⟩, hsz⟩ T' rfl X'
    exact ⟨t2, st t2 a1, b1⟩
  · obtain ⟨rfl, u1, k, p0, fs, hz1, f1, f2, f3, f4, ⟨ws', ix', h1, h2, h3⟩, hF⟩ := hx
    obtain ⟨k1, k2, k3⟩ := vx_keep (A1 := va_A ws H.size) h0 e1 hS (fun q _ h => hFc q h) hFc hL hF
    rw [← e1] at h1 hce
    obtain ⟨t2, a1, b1⟩ := kx q u1 k p0 fs T'.heap (locs ++ L) ce hz1 f2 f3 f4 ⟨ws', ix', h1, h2.weaken (fun _ _ _ h => hFc _ h), k3, h3⟩ hce hcv hcl T' rfl X'
    exact ⟨t2, st.trans a1, b1⟩
/-- a field of the object itself, beside the caught Fault -/
theorem z_p0 (X : FX p m c meth s args RX0 cc nL ret) (K : XK D d A s) {q k idx : Nat} {F9 : va_E} {x : Int32} (O : XH D A s.heap (hC hs) (up3 (ctY hs d u) 25 q 0 F9) H locs) {qq : Nat × Nat × Nat} (hsp : sp0[k]? = some (0, qq)) (hk : k < 19) (hlink : Cond.fieldLink RX0 idx (TX0 k).1 (TX0 k).2.1 (TX0 k).2.2.1 ∈ lw_all) (hfin : (TX0 k).2.2.2 = false) (hty : parseFieldDescriptor (TX0 k).2.2.1 = some .int) (hdg : decode cc pc = .ok (.putfield idx, 3))
    (kk : ∀ (H1 : Heap) (locs1 : List Loc), XH D A s.heap (hC hs) (up3 (ctY hs d (pss u (sI u.2.2 0 0 0 k x))) 25 q 0 F9) H1 locs1 → W p l e R s m args below meth c H1 locs1 cells slots Q (F0 m (pc + 3) ls rest)) : W p l e R s m args below meth c H locs cells slots Q (F0 m pc ls (.int x :: .ref (hC hs 0 0 0) :: rest)) := by
  have hl : k < (xfs (hC hs) u.2.2 0 0 0 0 sp0).length := by rw [xfs_len]; exact (List.getElem?_eq_some_iff.mp hsp).1
  refine x_put (host := "") (ty := .int) X K O k (ci := 0) (fs := xfs (hC hs) u.2.2 0 0 0 0 sp0) ?_ rfl in_X0 tyX0_ok nmX0 hk hlink hfin hty rfl rfl hl hdg (fun H1 locs1 O1 => kk H1 locs1 ?_)
  · unfold up3
    rw [if_neg (by omega)]
    exact xct_obj rfl LC_0
  · rw [up3_comm (by omega), show up3 (ctY hs d u) 0 0 0 (.inr (0, (xfs (hC hs) u.2.2 0 0 0 0 sp0).set k (.int x))) = ctY hs d (pss u (sI u.2.2 0 0 0 k x)) from xw_putI (L := LC u.1) (ok := okC u.1) x rfl LC_0 hsp] at O1
    exact O1
end ZT
def nr (u : PS) (b : Int32) : PS := pss (al u 24 0) (sI (al u 24 0).2.2 24 u.2.1 0 0 b)
def nrx {α : Type} (u : PS) (b : Int32) (f : PS → Option (RX α)) : Option (RX α) := ckm (nr u b) (f (nr u b))
theorem nrx_s {α : Type} {u : PS} {b : Int32} {f : PS → Option (RX α)} {z : RX α} (h : nrx u b f = some z) : u.2.1 + 1 ≤ rN z ∧ ∃ u1, u1 = nr u b ∧ f u1 = some z := by
  obtain ⟨h1, h2⟩ := ckm_s h
  exact ⟨h1, _, rfl, h2⟩
def bnt {α β : Type} (u : PS) (o : Option (RX α)) (f : PS → α → Option (RX β)) (g : PS → Int32 → Int32 → Option (RX β)) : Option (RX β) := match o with
  | none => none
  | some (.inr e) => ck (decide (u.2.1 ≤ e.1.2.1)) (ckm e.1 (g e.1 e.2.1 e.2.2))
  | some (.inl q) => ck (decide (u.2.1 ≤ q.1.2.1)) (ckm q.1 (f q.1 q.2))
theorem bnt_s {α β : Type} {u : PS} {o : Option (RX α)} {f : PS → α → Option (RX β)} {g : PS → Int32 → Int32 → Option (RX β)} {z : RX β} (h : bnt u o f g = some z) : ∃ z' : RX α, o = some z' ∧ (u.2.1 ≤ rN z' ∧ rN z' ≤ rN z) ∧ (∀ u1 r, z' = .inl (u1, r) → f u1 r = some z) ∧ ∀ u1 k q, z' = .inr (u1, k, q) → g u1 k q = some z := by
  cases o with
  | none => cases h
  | some z' =>
    cases z' with
    | inr e =>
      have h : ck (decide (u.2.1 ≤ e.1.2.1)) (ckm e.1 (g e.1 e.2.1 e.2.2)) = some z := h
      obtain ⟨h1, h2⟩ := ck_s h
      obtain ⟨h3, h4⟩ := ckm_s h2
      exact ⟨_, rfl, ⟨of_decide_eq_true h1, h3⟩, fun u1 r he => by (cases he), fun u1 k q he => by cases he; exact h4⟩
    | inl q =>
      have h : ck (decide (u.2.1 ≤ q.1.2.1)) (ckm q.1 (f q.1 q.2)) = some z := h
      obtain ⟨h1, h2⟩ := ck_s h
      obtain ⟨h3, h4⟩ := ckm_s h2
      exact ⟨_, rfl, ⟨of_decide_eq_true h1, h3⟩, fun u1 r he => by cases he; exact h4, fun u1 k q he => by cases he⟩
theorem nr_ct {hs : IX} {d : Nat → ClassId} {u : PS} {b : Int32} (hfresh : u.1 24 u.2.1 = none) : up3 (ctY hs d u) 24 u.2.1 0 (.inr (7, [.int b, .int 0, .int 0, .int 0, .int 0, .int 0, .ref (hC hs 0 0 0)])) = ctY hs d (nr u b) := by
  have ht : 20 ≤ 24 := by decide
  have g1 := xct_al (h := hC hs) (d := d) (u := u) (x := 0) ht hfresh
  have hok : okC (al u 24 0).1 24 u.2.1 0 = true := ok_new ht
  have g2 := xw_putI (L := LC (al u 24 0).1) (h := hC hs) (d := d) (σ := (al u 24 0).2.2) (k := 0) b hok LC_24 rfl
  show _ = xct (LC (al u 24 0).1) (okC (al u 24 0).1) (hC hs) d (sI (al u 24 0).2.2 24 u.2.1 0 0 b)
  rw [← g2, g1, up3_up3]
  have g3 : (xfs (hC hs) (al u 24 0).2.2 24 u.2.1 0 0 sp24).set 0 (.int b) = [.int b, .int 0, .int 0, .int 0, .int 0, .int 0, .ref (hC hs 0 0 0)] := by
    show [Value.int b, Value.int (gI (clr u.2.2 24 u.2.1) 24 u.2.1 0 1), Value.int (gI (clr u.2.2 24 u.2.1) 24 u.2.1 0 2), Value.int (gI (clr u.2.2 24 u.2.1) 24 u.2.1 0 3), Value.int (gI (clr u.2.2 24 u.2.1) 24 u.2.1 0 4), Value.int (gI (clr u.2.2 24 u.2.1) 24 u.2.1 0 5), Value.ref (hC hs 0 0 0)] = _
    rw [gI_clrS, gI_clrS, gI_clrS, gI_clrS, gI_clrS]
  rw [g3]
