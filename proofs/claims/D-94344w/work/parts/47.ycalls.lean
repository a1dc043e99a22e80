/-! calls of methods that make cells and may throw; a throw of a new Fault -/
theorem hdS_X8_init : (yX8_init.cls ≠ "java/lang/invoke/MethodHandle" ∧ yX8_init.cls ≠ "java/lang/invoke/VarHandle" ∧ (parseMethodDescriptor yX8_init.desc).map (fun d => d.parameters.length) = some 2) := by decide +kernel
section ZC
variable {p : Program} {l : Launch} {e : Env} {R : Room} {s : State} {m : MethodId} {args : Array Value} {below : List Frame} {meth : Method} {c : Code} {H : Heap} {locs : List Loc} {cells slots : Nat} {Q : State → Prop}
variable {cc : ByteArray} {nL : Nat} {ret : Option FieldType} {own : String} {pc : Nat} {ls : Array Slot} {rest : List Value} {D : va_G} {A : Nat → Prop} {hs : IX} {d : Nat → ClassId} {u : PS}
theorem W.sz {g : JFrame} (kk : H.size ≤ s.heap.size + cells → W p l e R s m args below meth c H locs cells slots Q g) : W p l e R s m args below meth c H locs cells slots Q g := fun T hT X => kk (by have h9 := X.same.2.2.1; rw [← hT]; exact h9) T hT X
theorem y_runV {α : Type} (X : FX p m c meth s args own cc nL ret) (K : XK D d A s) (O : YH D A s.heap hs d u H locs) {y : MethodName} {cc' : ByteArray} {nL' : Nat} {ret' : Option FieldType} {E : XE} {dd dd' mc0 ms0 : Nat} {z : RX α} {Qf : (Nat → Prop) → Array Value → State → Outcome → State → Prop} {As : List Value} {t a b ci : Nat} {fs : List Value} {C : String} {T : u_T} {N idx : Nat} (he : ctY hs d u t a b = some (.inr (ci, fs))) (hc : vwCl[ci]? = some (C, T, N)) (hM : YM l D d E y cc' nL' ret' dd' (.ref (hC hs t a b) :: As) hs u z Qf) (hEb : ∀ (B : Nat → Prop) (U : State) (g : JFrame) (mk : MethodId) (a : Array Value), E B U → E B (U.calling g mk a)) (hE : ∀ (B : Nat → Prop) (U : State), (∀ q, B q → A q) → U.heap = H → s.WarmedH U.vm → va_S A s.heap H locs → E B U) (hw : GoodIn lw_all (wsV own idx C y (ws_ y cc' nL' ret'))) (n : Nat) (hn : As.length = n) (hsize : ls.size = nL) (hW : (rest.map fun v => v.category).sum ≤ 8) (hd : y.cls = C ∧ y.cls ≠ "java/lang/invoke/MethodHandle" ∧ y.cls ≠ "java/lang/invoke/VarHandle" ∧ (parseMethodDescriptor y.desc).map (fun d => d.parameters.length) = some n) (hR : dd' < dd ∧ nL' ≤ 41) (hf : cells + (rN z - u.2.1) ≤ mc0 ∧ slots + 22 * (rN z - u.2.1) ≤ ms0) (hdg : decode cc pc = .ok (.invokevirtual idx, 3)) : ∃ ws : va_W, va_D A ws ∧ va_S A s.heap H locs ∧ (∀ q, va_A ws H.size q → A q) ∧ vy_Run p l e (rmD dd mc0 ms0) s m args below meth c H locs cells slots (rN z - u.2.1) (22 * (rN z - u.2.1)) (F0 m pc ls (As.reverse ++ .ref (hC hs t a b) :: rest)) rest (Qf (va_A ws H.size) (.ref (hC hs t a b) :: As).toArray) (YX D hs d z (va_A ws H.size)) (va_A ws H.size) := by
  obtain ⟨⟨ws, ix, hP, hD, hS, r⟩, hz⟩ := O
  have hFc : ∀ q, va_A ws H.size q → A q := by
    intro q hq
    rcases hq with ⟨k, e, hk⟩ | hq
    · exact hD.2 k _ hk
    · exact K.2.2 q (Nat.le_trans hS.1 hq)
  have hRR : (rmD dd' (rN z - u.2.1) (22 * (rN z - u.2.1))).frames + 1 ≤ (rmD dd mc0 ms0).frames ∧ 8 + (nL' + 11) + (rmD dd' (rN z - u.2.1) (22 * (rN z - u.2.1))).locals ≤ (rmD dd mc0 ms0).locals := by
    show dd' + 1 ≤ dd ∧ 8 + (nL' + 11) + 60 * dd' ≤ 60 * dd
    omega
  have hM9 := hM ws
  rw [← hz] at hM9
  rw [← hz] at hf hRR ⊢
  exact ⟨ws, hD, hS, hFc, vy_runV (C := C) X.1 hM9 (cwV n X.1.2.2.2.2 hw rfl rfl rfl hd hRR) ⟨fun a U g mk q => by obtain ⟨q0, q1, q2, q3, q4, q5, q6, q7⟩ := q; exact ⟨q0, q1, q2, q3, q4, va_K.moved (u := U) (U := U.calling g mk a) (Vm.Alike.refl U.vm) q5, q6.calling, hEb _ _ _ _ _ q7⟩, va_recv K.1 hP hc (r.1 t a b _ he), fun U hU hW => ⟨rfl, by rw [hU], by rw [hU]; exact hP, hD.weaken (fun _ _ _ _ => trivial), ⟨ix, r⟩, va_K.moved hW.alike K.1, K.2.1.warm hW, hE _ U hFc hU hW hS⟩⟩ rfl hn hsize rfl (lv_room hW) hdg hf⟩
theorem y_runS {α : Type} (X : FX p m c meth s args own cc nL ret) (K : XK D d A s) (O : YH D A s.heap hs d u H locs) {y : MethodName} {cc' : ByteArray} {nL' : Nat} {ret' : Option FieldType} {E : XE} {dd dd' mc0 ms0 : Nat} {z : RX α} {Qf : (Nat → Prop) → Array Value → State → Outcome → State → Prop} {As : List Value} {idx : Nat} (hM : YM l D d E y cc' nL' ret' dd' As hs u z Qf) (hEb : ∀ (B : Nat → Prop) (U : State) (g : JFrame) (mk : MethodId) (a : Array Value), E B U → E B (U.calling g mk a)) (hE : ∀ (B : Nat → Prop) (U : State), (∀ q, B q → A q) → U.heap = H → s.WarmedH U.vm → va_S A s.heap H locs → E B U) (hw : GoodIn lw_all (va_wsS own idx y (ws_ y cc' nL' ret'))) (n : Nat) (hn : As.length = n) (hsize : ls.size = nL) (hW : (rest.map fun v => v.category).sum ≤ 8) (hd : y.cls ≠ "java/lang/invoke/MethodHandle" ∧ y.cls ≠ "java/lang/invoke/VarHandle" ∧ (parseMethodDescriptor y.desc).map (fun d => d.parameters.length) = some n) (hR : dd' < dd ∧ nL' ≤ 41) (hf : cells + (rN z - u.2.1) ≤ mc0 ∧ slots + 22 * (rN z - u.2.1) ≤ ms0) (hdg : decode cc pc = .ok (.invokestatic idx, 3)) : ∃ ws : va_W, va_D A ws ∧ va_S A s.heap H locs ∧ (∀ q, va_A ws H.size q → A q) ∧ vy_Run p l e (rmD dd mc0 ms0) s m args below meth c H locs cells slots (rN z - u.2.1) (22 * (rN z - u.2.1)) (F0 m pc ls (As.reverse ++ rest)) rest (Qf (va_A ws H.size) As.toArray) (YX D hs d z (va_A ws H.size)) (va_A ws H.size) := by
  obtain ⟨⟨ws, ix, hP, hD, hS, r⟩, hz⟩ := O
  have hFc : ∀ q, va_A ws H.size q → A q := by
    intro q hq
    rcases hq with ⟨k, e, hk⟩ | hq
    · exact hD.2 k _ hk
    · exact K.2.2 q (Nat.le_trans hS.1 hq)
  have hRR : (rmD dd' (rN z - u.2.1) (22 * (rN z - u.2.1))).frames + 1 ≤ (rmD dd mc0 ms0).frames ∧ 8 + (nL' + 11) + (rmD dd' (rN z - u.2.1) (22 * (rN z - u.2.1))).locals ≤ (rmD dd mc0 ms0).locals := by
    show dd' + 1 ≤ dd ∧ 8 + (nL' + 11) + 60 * dd' ≤ 60 * dd
    omega
  have hM9 := hM ws
  rw [← hz] at hM9
  rw [← hz] at hf hRR ⊢
  exact ⟨ws, hD, hS, hFc, vy_runS X.1 hM9 (va_cwS n X.1.2.2.2.2 hw rfl rfl rfl hd hRR) ⟨fun a U g mk q => by obtain ⟨q0, q1, q2, q3, q4, q5, q6, q7⟩ := q; exact ⟨q0, q1, q2, q3, q4, va_K.moved (u := U) (U := U.calling g mk a) (Vm.Alike.refl U.vm) q5, q6.calling, hEb _ _ _ _ _ q7⟩, fun U hU hW => ⟨rfl, by rw [hU], by rw [hU]; exact hP, hD.weaken (fun _ _ _ _ => trivial), ⟨ix, r⟩, va_K.moved hW.alike K.1, K.2.1.warm hW, hE _ U hFc hU hW hS⟩⟩ rfl hn hsize rfl (lv_room hW) hdg hf⟩
theorem y_callv {β : Type} {st0 : List Value} {z' : RX Unit} {z : RX β} {Qg : Array Value → State → Outcome → State → Prop} {mc0 ms0 : Nat} {av : Array Value} (htab : ∀ x ∈ c.exceptionTable.toList, False) (hlk : meth.locks = false) (hr : ∃ ws : va_W, va_D A ws ∧ va_S A s.heap H locs ∧ (∀ q, va_A ws H.size q → A q) ∧ vy_Run p l e R s m args below meth c H locs cells slots (rN z' - u.2.1) (22 * (rN z' - u.2.1)) (F0 m pc ls st0) rest (Yv D hs d z' (va_A ws H.size) av) (YX D hs d z' (va_A ws H.size)) (va_A ws H.size)) (hX : ∀ e, z' = .inr e → z = .inr e) (hb : cells + (rN z' - u.2.1) ≤ mc0 ∧ slots + 22 * (rN z' - u.2.1) ≤ ms0)
    (kk : ∀ (u1 : PS) (H1 : Heap) (locs1 : List Loc), z' = .inl (u1, ()) → YH D A s.heap hs d u1 H1 locs1 → W p l e R s m args below meth c H1 locs1 (cells + (rN z' - u.2.1)) (slots + 22 * (rN z' - u.2.1)) (vy_MQ below Qg (YX D hs d z A) args s mc0 ms0 A) (F0 m (pc + 3) ls (rest))) : W p l e R s m args below meth c H locs cells slots (vy_MQ below Qg (YX D hs d z A) args s mc0 ms0 A) (F0 m pc ls st0) := by
  obtain ⟨ws, hD, hS, hFc, hrun⟩ := hr
  intro T hT X
  rcases hrun T hT X with ⟨v, st₀, t, T', L, h0, X', hL, e1, e2, hq, st⟩ | ⟨q, st₀, t, T', L, E, ce, h0, X', hL, e1, e2, hx, hce, hcv, hcl, st⟩
  · obtain ⟨⟨u1, hv, hp, hB, hsz⟩, hF⟩ := hq
    cases hv
    obtain ⟨k1, k2, k3⟩ := vx_keep (A1 := va_A ws H.size) h0 e1 hS (fun q _ h => hFc q h) hFc hL hF
    obtain ⟨ws', ix', h1, h2, h3⟩ := hB
    rw [← e1] at h1 hsz
    obtain ⟨t2, a1, b1⟩ := kk u1 T'.heap (locs ++ L) hp ⟨⟨ws', ix', h1, h2.weaken (fun _ _ _ h => hFc _ h), k3, h3⟩, hsz⟩ T' rfl X'
    exact ⟨t2, st t2 a1, b1⟩
  · obtain ⟨rfl, u1, k, p0, fs, hz1, f1, f2, f3, f4, ⟨ws', ix', h1, h2, h3⟩, hF⟩ := hx
    obtain ⟨k1, k2, k3⟩ := vx_keep (A1 := va_A ws H.size) h0 e1 hS (fun q _ h => hFc q h) hFc hL hF
    rw [← e1] at h1 hce
    obtain ⟨t2, a1, b1⟩ := vy_out (ls := ls) (rest := rest) (pc := pc) (E := "NotchSticks$Fault") (ce := ce) (q := q) (mc := mc0) (ms := ms0) (Qc := Qg) (XC := YX D hs d z A) (free := A) (H := T'.heap) (locs := locs ++ L) (cells := cells + (rN z' - u.2.1)) (slots := slots + 22 * (rN z' - u.2.1)) (fun x hx => absurd hx (fun h => htab x h)) hlk hce hcv hcl (fun t9 ht9 hvm9 => ⟨rfl, u1, k, p0, fs, hX _ hz1, f1, f2, f3, f4, ⟨ws', ix', by rw [ht9]; exact h1, h2.weaken (fun _ _ _ h => hFc _ h), h3⟩, k3.F ht9⟩) k3.2.2 hb.1 hb.2 T' rfl X'
    exact ⟨t2, st.trans a1, b1⟩
theorem y_calli {β : Type} {st0 : List Value} {z' : RX Int32} {z : RX β} {Qg : Array Value → State → Outcome → State → Prop} {mc0 ms0 : Nat} {av : Array Value} (htab : ∀ x ∈ c.exceptionTable.toList, False) (hlk : meth.locks = false) (hr : ∃ ws : va_W, va_D A ws ∧ va_S A s.heap H locs ∧ (∀ q, va_A ws H.size q → A q) ∧ vy_Run p l e R s m args below meth c H locs cells slots (rN z' - u.2.1) (22 * (rN z' - u.2.1)) (F0 m pc ls st0) rest (Yi D hs d z' (va_A ws H.size) av) (YX D hs d z' (va_A ws H.size)) (va_A ws H.size)) (hX : ∀ e, z' = .inr e → z = .inr e) (hb : cells + (rN z' - u.2.1) ≤ mc0 ∧ slots + 22 * (rN z' - u.2.1) ≤ ms0)
    (kk : ∀ (r : Int32) (u1 : PS) (H1 : Heap) (locs1 : List Loc), z' = .inl (u1, r) → YH D A s.heap hs d u1 H1 locs1 → W p l e R s m args below meth c H1 locs1 (cells + (rN z' - u.2.1)) (slots + 22 * (rN z' - u.2.1)) (vy_MQ below Qg (YX D hs d z A) args s mc0 ms0 A) (F0 m (pc + 3) ls (.int r :: rest))) : W p l e R s m args below meth c H locs cells slots (vy_MQ below Qg (YX D hs d z A) args s mc0 ms0 A) (F0 m pc ls st0) := by
  obtain ⟨ws, hD, hS, hFc, hrun⟩ := hr
  intro T hT X
  rcases hrun T hT X with ⟨v, st₀, t, T', L, h0, X', hL, e1, e2, hq, st⟩ | ⟨q, st₀, t, T', L, E, ce, h0, X', hL, e1, e2, hx, hce, hcv, hcl, st⟩
  · obtain ⟨⟨r, u1, hv, hp, hB, hsz⟩, hF⟩ := hq
    cases hv
    obtain ⟨k1, k2, k3⟩ := vx_keep (A1 := va_A ws H.size) h0 e1 hS (fun q _ h => hFc q h) hFc hL hF
    obtain ⟨ws', ix', h1, h2, h3⟩ := hB
    rw [← e1] at h1 hsz
    obtain ⟨t2, a1, b1⟩ := kk r u1 T'.heap (locs ++ L) hp ⟨⟨ws', ix', h1, h2.weaken (fun _ _ _ h => hFc _ h), k3, h3⟩, hsz⟩ T' rfl X'
    exact ⟨t2, st t2 a1, b1⟩
  · obtain ⟨rfl, u1, k, p0, fs, hz1, f1, f2, f3, f4, ⟨ws', ix', h1, h2, h3⟩, hF⟩ := hx
    obtain ⟨k1, k2, k3⟩ := vx_keep (A1 := va_A ws H.size) h0 e1 hS (fun q _ h => hFc q h) hFc hL hF
    rw [← e1] at h1 hce
    obtain ⟨t2, a1, b1⟩ := vy_out (ls := ls) (rest := rest) (pc := pc) (E := "NotchSticks$Fault") (ce := ce) (q := q) (mc := mc0) (ms := ms0) (Qc := Qg) (XC := YX D hs d z A) (free := A) (H := T'.heap) (locs := locs ++ L) (cells := cells + (rN z' - u.2.1)) (slots := slots + 22 * (rN z' - u.2.1)) (fun x hx => absurd hx (fun h => htab x h)) hlk hce hcv hcl (fun t9 ht9 hvm9 => ⟨rfl, u1, k, p0, fs, hX _ hz1, f1, f2, f3, f4, ⟨ws', ix', by rw [ht9]; exact h1, h2.weaken (fun _ _ _ h => hFc _ h), h3⟩, k3.F ht9⟩) k3.2.2 hb.1 hb.2 T' rfl X'
    exact ⟨t2, st.trans a1, b1⟩
theorem y_callr {β : Type} {st0 : List Value} {z' : RX Nat} {z : RX β} {Qg : Array Value → State → Outcome → State → Prop} {mc0 ms0 : Nat} {av : Array Value} (htab : ∀ x ∈ c.exceptionTable.toList, False) (hlk : meth.locks = false) (hr : ∃ ws : va_W, va_D A ws ∧ va_S A s.heap H locs ∧ (∀ q, va_A ws H.size q → A q) ∧ vy_Run p l e R s m args below meth c H locs cells slots (rN z' - u.2.1) (22 * (rN z' - u.2.1)) (F0 m pc ls st0) rest (Yr D hs d z' (va_A ws H.size) av) (YX D hs d z' (va_A ws H.size)) (va_A ws H.size)) (hX : ∀ e, z' = .inr e → z = .inr e) (hb : cells + (rN z' - u.2.1) ≤ mc0 ∧ slots + 22 * (rN z' - u.2.1) ≤ ms0)
    (kk : ∀ (r : Nat) (u1 : PS) (H1 : Heap) (locs1 : List Loc), z' = .inl (u1, r) → YH D A s.heap hs d u1 H1 locs1 → W p l e R s m args below meth c H1 locs1 (cells + (rN z' - u.2.1)) (slots + 22 * (rN z' - u.2.1)) (vy_MQ below Qg (YX D hs d z A) args s mc0 ms0 A) (F0 m (pc + 3) ls (.ref r :: rest))) : W p l e R s m args below meth c H locs cells slots (vy_MQ below Qg (YX D hs d z A) args s mc0 ms0 A) (F0 m pc ls st0) := by
  obtain ⟨ws, hD, hS, hFc, hrun⟩ := hr
  intro T hT X
  rcases hrun T hT X with ⟨v, st₀, t, T', L, h0, X', hL, e1, e2, hq, st⟩ | ⟨q, st₀, t, T', L, E, ce, h0, X', hL, e1, e2, hx, hce, hcv, hcl, st⟩
  · obtain ⟨⟨u1, r, hv, -, hp, hB, hsz⟩, hF⟩ := hq
    cases hv
    obtain ⟨k1, k2, k3⟩ := vx_keep (A1 := va_A ws H.size) h0 e1 hS (fun q _ h => hFc q h) hFc hL hF
    obtain ⟨ws', ix', h1, h2, h3⟩ := hB
    rw [← e1] at h1 hsz
    obtain ⟨t2, a1, b1⟩ := kk r u1 T'.heap (locs ++ L) hp ⟨⟨ws', ix', h1, h2.weaken (fun _ _ _ h => hFc _ h), k3, h3⟩, hsz⟩ T' rfl X'
    exact ⟨t2, st t2 a1, b1⟩
  · obtain ⟨rfl, u1, k, p0, fs, hz1, f1, f2, f3, f4, ⟨ws', ix', h1, h2, h3⟩, hF⟩ := hx
    obtain ⟨k1, k2, k3⟩ := vx_keep (A1 := va_A ws H.size) h0 e1 hS (fun q _ h => hFc q h) hFc hL hF
    rw [← e1] at h1 hce
    obtain ⟨t2, a1, b1⟩ := vy_out (ls := ls) (rest := rest) (pc := pc) (E := "NotchSticks$Fault") (ce := ce) (q := q) (mc := mc0) (ms := ms0) (Qc := Qg) (XC := YX D hs d z A) (free := A) (H := T'.heap) (locs := locs ++ L) (cells := cells + (rN z' - u.2.1)) (slots := slots + 22 * (rN z' - u.2.1)) (fun x hx => absurd hx (fun h => htab x h)) hlk hce hcv hcl (fun t9 ht9 hvm9 => ⟨rfl, u1, k, p0, fs, hX _ hz1, f1, f2, f3, f4, ⟨ws', ix', by rw [ht9]; exact h1, h2.weaken (fun _ _ _ h => hFc _ h), h3⟩, k3.F ht9⟩) k3.2.2 hb.1 hb.2 T' rfl X'
    exact ⟨t2, st.trans a1, b1⟩
theorem y_throw {β : Type} {adK adV : Nat → Nat} {e0 dd mc0 ms0 : Nat} (X : FX p m c meth s args RX7 cc nL ret) (K : XK D d A s) (hE : ES adK adV e0 A s) (htr0 : l.stackTraces = false) (htab : ∀ x ∈ c.exceptionTable.toList, False) (O : YH D A s.heap hs d u H locs) {v kk : Nat} {z : RX β} {Qg : Array Value → State → Outcome → State → Prop} {k : Int32} {ki : Int} {lv : List (Nat × Value)} (hk : okC u.1 24 v 0 = true) (hl : lv_has ls nL lv) (h0 : lv[kk]? = some (0, .ref (hC hs 24 v 0))) (hki : Int32.ofInt ki = k) (hdd : 4 < dd) (hcells : cells + 1 ≤ mc0) (hslots : slots + 8 ≤ ms0) (hz : z = .inr (bmp u, k, gI u.2.2 24 v 0 2)) (d0 : decode cc pc = .ok (.new 124, 3)) (d3 : decode cc (pc + 3) = .ok (.dup, 1)) (d4 : decode cc (pc + 4) = .ok (.iconst ki, 1)) (d5 : decode cc (pc + 5) = .ok (.aload_n 0, 1)) (d6 : decode cc (pc + 6) = .ok (.getfield 38, 3)) (d9 : decode cc (pc + 9) = .ok (.invokespecial 126, 3)) (d12 : decode cc (pc + 12) = .ok (.athrow, 1)) : W p l e (rmD dd mc0 ms0) s m args below meth c H locs cells slots (vy_MQ below Qg (YX D hs d z A) args s mc0 ms0 A) (F0 m pc ls []) := by
  obtain ⟨⟨ws, ix, hP, hD, hS, r⟩, hzs⟩ := O
  have hx := X.1.1
  have hb := X.1.2.1
  have hKn := K.1.1 14 _ rfl
  have ht : 20 ≤ 25 := by decide
  have hfresh : u.1 25 u.2.1 = none := by
    cases hh : u.1 25 u.2.1 with
    | none => rfl
    | some x0 =>
      have hok : okC u.1 25 u.2.1 0 = true := by rw [okC_hi ht, hh]; rfl
      have h1 := (hP _ _ (r.1 25 u.2.1 0 _ (xct_some hok))).lt
      have h2 : hC hs 25 u.2.1 0 < H.size := h1
      rw [hC_id ht] at h2
      omega
  have hnone : ctY hs d u 25 u.2.1 0 = none := by
    show xct (LC u.1) (okC u.1) (hC hs) d u.2.2 25 u.2.1 0 = none
    unfold xct
    rw [okC_hi ht, hfresh]; rfl
  refine W.newcK hx hb X.1.2.2.2.1 (X.1.2.2.2.2 _ q593) (X.1.2.2.2.2 _ q594) (X.1.2.2.2.2 _ q132) rfl d0 hcells hslots hKn.2.1 rfl fun H1 kC hkC e1 z1 o1 => ?_
  have hkp : ∀ (k : Nat) (x : Nat × va_E), ws[k]? = some x → H1[x.1]? = H[x.1]? := fun k x hx => o1 x.1 ((hP k x hx).lt)
  have hq : hC hs 25 u.2.1 0 = H.size := by rw [hC_id ht, hzs]
  obtain ⟨ix', r'⟩ := r.push (e := .inr (14, [.null, .null, .null, .null, .null, .int 0, .int 0, .int 0])) hnone hq
  have O1 : XH D A s.heap (hC hs) (up3 (ctY hs d u) 25 u.2.1 0 (.inr (14, [.null, .null, .null, .null, .null, .int 0, .int 0, .int 0]))) H1 locs := by
    refine ⟨ws ++ [(H.size, .inr (14, [.null, .null, .null, .null, .null, .int 0, .int 0, .int 0]))], ix', (hP.kept hkp).app (fun k x hx => ?_), hD.push hP rfl (K.2.2 _ hS.1), ⟨Nat.le_trans hS.1 (by omega), fun x h1 h2 => (o1 x (Nat.lt_of_lt_of_le h1 hS.1)).trans (hS.2.1 x h1 h2), hS.2.2⟩, r'⟩
    have hz9 : k < 1 := (List.getElem?_eq_some_iff.mp hx).1
    rw [show k = 0 by omega] at hx
    cases hx
    exact ⟨_, rfl, (u_born tyX8 X.1.2.2.2.2 in_X8 hKn hkC e1 tyX8_ok).to (by
      have h8 : ∀ j, j < 8 → defaultValue (tyX8 j) = vp_V [.null, .null, .null, .null, .null, .int 0, .int 0, .int 0] j := by decide
      exact h8)⟩
  have hfc : H1[u.2.1]? = some (freshCell (D.1 14) kC) := by rw [← hzs]; exact e1
  have hn1 : H.size = u.2.1 := hzs
  rw [hn1]
  refine lv_dup hx hb d3 rfl ?_
  refine lv_iconst (v := k) hx hb d4 hki ?_
  refine lv_aload_n hx hb d5 rfl (lv_at hl kk h0) ?_
  have he24 : up3 (ctY hs d u) 25 u.2.1 0 (.inr (14, [.null, .null, .null, .null, .null, .int 0, .int 0, .int 0])) 24 v 0 = some (.inr (7, xfs (hC hs) u.2.2 24 v 0 0 sp24)) := by
    unfold up3
    rw [if_neg (by omega)]
    exact xct_obj hk LC_24
  refine x_get X K O1 2 he24 rfl in_X7 (by decide) q460 (v := .int (gI u.2.2 24 v 0 2)) rfl d6 ?_
  refine x_callv (x_runI (ret' := none) (As := [.int k, .int (gI u.2.2 24 v 0 2)]) (rest := [.ref u.2.1]) (bb := u.2.1) X K O1 (m_fault (adK := adK) (adV := adV) (e0 := e0) htr0 up3_self (hC_id ht)) EF_b (fun B U hB hU hW hS9 => by obtain ⟨k9, hk9, hek⟩ := hW.alike.2.2 _ _ hkC; exact ⟨ES_h hE B U hB hU hW hS9, D.1 14, k9, by rw [hW.alike.findClass]; exact hKn.2.1, hk9, by rw [hU, hfc, hek]⟩) q630 q631 q132 q632 rfl 2 rfl hl.1 (Nat.le_of_ble_eq_true rfl) hdS_X8_init ⟨hdd, by decide⟩ ⟨hcells, hslots⟩ d9) (fun fs H2 locs2 hp O2 _ => ?_)
  obtain ⟨p1, p2, p3⟩ := hp
  refine vx_athrow hx hb d12 ?_
  obtain ⟨ws2, ix2, hP2, hD2, hS2, r2⟩ := O2
  have r2 : xRel (hC hs) ix2 (up3 (ctY hs d u) 25 u.2.1 0 (.inr (14, fs))) ws2 := by
    have r3 := r2
    simp only [up3_up3] at r3
    exact r3
  have hq2 := r2.1 25 u.2.1 0 _ up3_self
  rw [hC_id ht] at hq2
  obtain ⟨r0, hr0, ce, g1, g2, g3, g4⟩ := hP2 _ _ hq2
  exact vy_out (E := "NotchSticks$Fault") (ce := ce) (fun x hx => absurd hx (fun h => htab x h)) X.2.2 g1 g3 (by rw [g2]; exact hKn.2.1) (fun t9 ht9 hvm9 => ⟨rfl, bmp u, k, gI u.2.2 24 v 0 2, fs, hz, p1, p2, p3, hnone, ⟨ws2, ix2, by rw [ht9]; exact hP2, hD2, r2⟩, hS2.F ht9⟩) hS2.2.2 (by omega) (by omega)
end ZC
