/-! rows for the lists' methods -/
def isA (Δ : DT) (e0 r : Nat) : Bool := decide (r = e0) || okC Δ 21 r 0
def alen (Δ : DT) (e0 r : Nat) : Int32 := if r = e0 then 0 else Int32.ofNat (LC_21n Δ r)
def elo (Δ : DT) (x : Nat) : Bool := (Δ 20 x).isSome || (Δ 22 x).isSome
def cpR (σ : ST) (r0 r1 n : Nat) : ST := (σ.1, σ.2.1, fun t a b k => if (t = 21 ∧ a = r1 ∧ b = 0) ∧ k < n then σ.2.2 21 r0 0 k else σ.2.2 t a b k)
def elsOk (u : PS) (r n : Nat) : Bool := (List.range n).all (fun j => decide (gR u.2.2 21 r 0 j = 0) || elo u.1 (gR u.2.2 21 r 0 j - 1))
def aQ (h : IX) (σ : ST) (t a b : Nat) : Nat → Option Nat := fun j => if gR σ t a b j = 0 then none else some (h 20 (gR σ t a b j - 1) 0)
theorem xct_arr {L : LY} {ok : Nat → Nat → Nat → Bool} {h : IX} {d : Nat → ClassId} {σ : ST} {t a b n q : Nat} (hok : ok t a b = true) (hL : L t a b = .inl (6, n, q)) : xct L ok h d σ t a b = some (.inl (d 6, n, .inr (.inr (.inr (.inr (aQ h σ t a b)))))) := by
  rw [xct_some hok, hL]; rfl
theorem xw_astQ {L : LY} {ok : Nat → Nat → Nat → Bool} {h : IX} {d : Nat → ClassId} {σ : ST} {t a b n q : Nat} (j x : Nat) (hok : ok t a b = true) (hL : L t a b = .inl (6, n, q)) : up3 (xct L ok h d σ) t a b (.inl (d 6, n, .inr (.inr (.inr (.inr (va_up (aQ h σ t a b) j (if x = 0 then none else some (h 20 (x - 1) 0)))))))) = xct L ok h d (sR σ t a b j x) := by
  refine xct_of hok ?_ (fun t' a' b' hq => xfill_ext (σ := σ) (τ := sR σ t a b j x) rfl rfl (gR_sR_ne hq) _)
  rw [hL]
  have e : va_up (aQ h σ t a b) j (if x = 0 then none else some (h 20 (x - 1) 0)) = aQ h (sR σ t a b j x) t a b := by
    funext k
    unfold va_up aQ
    by_cases hk : k = j
    · have e1 : gR (sR σ t a b j x) t a b k = x := by rw [gR_sR, if_pos ⟨rfl, rfl, rfl, hk⟩]
      rw [e1, if_pos hk]
    · have e1 : gR (sR σ t a b j x) t a b k = gR σ t a b k := by rw [gR_sR, if_neg (fun z => hk z.2.2.2)]
      rw [e1, if_neg hk]
  rw [e]
  rfl
theorem gR_cpR {σ : ST} {r0 r1 n t a b : Nat} (hq : ¬ (t = 21 ∧ a = r1 ∧ b = 0)) : gR (cpR σ r0 r1 n) t a b = gR σ t a b := by
  funext k
  exact if_neg (fun z => hq z.1)
theorem xw_cpy {L : LY} {ok : Nat → Nat → Nat → Bool} {h : IX} {d : Nat → ClassId} {σ : ST} {r0 r1 n n1 q : Nat} (hok : ok 21 r1 0 = true) (hL : L 21 r1 0 = .inl (6, n1, q)) : up3 (xct L ok h d σ) 21 r1 0 (.inl (d 6, n1, .inr (.inr (.inr (.inr (va_cpy (aQ h σ 21 r0 0) (aQ h σ 21 r1 0) 0 0 n)))))) = xct L ok h d (cpR σ r0 r1 n) := by
  refine xct_of hok ?_ (fun t' a' b' hq => xfill_ext (σ := σ) (τ := cpR σ r0 r1 n) rfl rfl (gR_cpR hq) _)
  rw [hL]
  have e : va_cpy (aQ h σ 21 r0 0) (aQ h σ 21 r1 0) 0 0 n = aQ h (cpR σ r0 r1 n) 21 r1 0 := by
    funext k
    have h1 : gR (cpR σ r0 r1 n) 21 r1 0 k = if k < n then gR σ 21 r0 0 k else gR σ 21 r1 0 k := by
      show (if (21 = 21 ∧ r1 = r1 ∧ 0 = 0) ∧ k < n then σ.2.2 21 r0 0 k else σ.2.2 21 r1 0 k) = _
      by_cases hk : k < n
      · rw [if_pos ⟨⟨rfl, rfl, rfl⟩, hk⟩, if_pos hk]; rfl
      · rw [if_neg (fun z => hk z.2), if_neg hk]; rfl
    unfold va_cpy aQ
    rw [h1]
    by_cases hk : k < n
    · rw [if_pos ⟨Nat.zero_le _, by omega⟩, if_pos hk]
      have e0 : 0 + (k - 0) = k := by omega
      rw [e0]
    · rw [if_neg (fun z => hk (by omega)), if_neg hk]
  rw [e]
  rfl
theorem fcast {s : State} {C T : String} (h : va_Nw (.castable C T) s) : ∀ comp c0 : ClassId, s.vm.findClass T = some comp → s.vm.findClass C = some c0 → s.vm.assignable c0 comp = true := fun comp c0 h1 h2 => by
  obtain ⟨c9, t9, f1, f2, f3⟩ := Cond.castable_spec (va_Nw.use (A := #[]) rfl h)
  cases Option.some.inj (h1.symm.trans f2)
  cases Option.some.inj (h2.symm.trans f1)
  exact f3
section ZL
variable {p : Program} {l : Launch} {e : Env} {R : Room} {s : State} {m : MethodId} {args : Array Value} {below : List Frame} {meth : Method} {c : Code} {H : Heap} {locs : List Loc} {cells slots : Nat} {Q : State → Prop}
variable {cc : ByteArray} {nL : Nat} {ret : Option FieldType} {own : String} {pc : Nat} {ls : Array Slot} {rest : List Value} {D : va_G} {A : Nat → Prop} {hs : IX} {d : Nat → ClassId} {u : PS} {H0 : Heap}
theorem elo_any (K : XK D d A s) (O : YH D A H0 hs d u H locs) {x : Nat} (hx : elo u.1 x = true) : va_Any "java/lang/Object" s H x := by
  obtain ⟨⟨ws, ix, hP, hD, hS, r⟩, hz⟩ := O
  unfold elo at hx
  rw [Bool.or_eq_true] at hx
  rcases hx with hx | hx
  · have hok : okC u.1 20 x 0 = true := by rw [okC_hi (by decide), hx]; rfl
    have h1 := r.1 20 x 0 _ (xct_obj hok LC_20)
    exact va_rAny K.1 hP h1 rfl (fcast (K.2.1.2.2.2.1 _ _ q1712))
  · have hok : okC u.1 22 x 0 = true := by rw [okC_hi (by decide), hx]; rfl
    have h1 := r.1 22 x 0 _ (xct_obj hok LC_22)
    exact va_rAny K.1 hP h1 rfl (fcast (K.2.1.2.2.2.1 _ _ q1723))
theorem y_gete {adK adV : Nat → Nat} {e0 : Nat} (X : FX p m c meth s args RJ2 cc nL ret) (hE : ES adK adV e0 A s) (O : YH D A s.heap hs d u H locs) (hdg : decode cc pc = .ok (.getstatic 39, 3)) (kk : W p l e R s m args below meth c H locs cells slots Q (F0 m (pc + 3) ls (.ref e0 :: rest))) : W p l e R s m args below meth c H locs cells slots Q (F0 m pc ls rest) := by
  obtain ⟨⟨ws, ix, hP, hD, hS, r⟩, hz⟩ := O
  exact va_gets X.1.1 X.1.2.1 hE.2.2.2.2.2.2.1 hS X.1.2.2.2.1 (X.1.2.2.2.2 _ q160) (fun _ h => h) hdg kk
theorem y_alen {adK adV : Nat → Nat} {e0 r : Nat} (X : FX p m c meth s args own cc nL ret) (K : XK D d A s) (hE : ES adK adV e0 A s) (O : YH D A s.heap hs d u H locs) (hc : isA u.1 e0 r = true) (hdg : decode cc pc = .ok (.arraylength, 1)) (kk : W p l e R s m args below meth c H locs cells slots Q (F0 m (pc + 1) ls (.int (alen u.1 e0 r) :: rest))) : W p l e R s m args below meth c H locs cells slots Q (F0 m pc ls (.ref r :: rest)) := by
  unfold alen at kk
  by_cases hr : r = e0
  · rw [if_pos hr] at kk
    subst hr
    obtain ⟨⟨ws, ix, hP, hD, hS, r⟩, hz⟩ := O
    exact va_tlen X.1.1 X.1.2.1 hE.2.2.2.2.2.2.2.1 hS rfl hdg kk
  · rw [if_neg hr] at kk
    have hok : okC u.1 21 r 0 = true := by
      unfold isA at hc
      rw [Bool.or_eq_true] at hc
      rcases hc with hc | hc
      · exact absurd (of_decide_eq_true hc) hr
      · exact hc
    exact x_len X K O.1 6 hok LC_21 rfl rfl hdg kk
theorem y_newarr (X : FX p m c meth s args own cc nL ret) (K : XK D d A s) (O : YH D A s.heap hs d u H locs) {idx : Nat} (hcl : Cond.classLink own idx "java/lang/Object" ∈ lw_all) {n : Int32} {N : Nat} (hn : ¬ n < 0) (hN : n.toNatClampNeg = N) (hN9 : N ≤ 22) (hcells : cells + 1 ≤ R.cells) (hslots : slots + N ≤ R.slots) (hdg : decode cc pc = .ok (.anewarray idx, 3))
    (kk : ∀ H1 : Heap, YH D A s.heap hs d (al u 21 N) H1 locs → W p l e R s m args below meth c H1 locs (cells + 1) (slots + N) Q (F0 m (pc + 3) ls (.ref u.2.1 :: rest))) : W p l e R s m args below meth c H locs cells slots Q (F0 m pc ls (.int n :: rest)) := by
  subst hN
  obtain ⟨⟨ws, ix, hP, hD, hS, r⟩, hz⟩ := O
  have ht : 20 ≤ 21 := by decide
  have hfresh : u.1 21 u.2.1 = none := by
    cases hh : u.1 21 u.2.1 with
    | none => rfl
    | some x0 =>
      have hok : okC u.1 21 u.2.1 0 = true := by rw [okC_hi ht, hh]; rfl
      have h1 := (hP _ _ (r.1 21 u.2.1 0 _ (xct_some hok))).lt
      have h2 : hC hs 21 u.2.1 0 < H.size := h1
      rw [hC_id ht] at h2
      omega
  have hnone : xct (LC u.1) (okC u.1) (hC hs) d u.2.2 21 u.2.1 0 = none := by
    unfold xct
    rw [okC_hi ht, hfresh]; rfl
  refine W.anew X.1.1 X.1.2.1 X.1.2.2.2.1 (X.1.2.2.2.2 _ hcl) (va_AO.use K.2.1.2.2.2.2.1) rfl hdg rfl hn (by omega) hcells hslots fun cA kA comp f1 f2 f3 f4 => ?_
  generalize hH1 : H.push ({ cls := cA, slots := Array.replicate n.toNatClampNeg .null, vm := .none } : Cell) = H1
  have z1 : H1.size = H.size + 1 := by rw [← hH1, Array.size_push]
  have e1 : H1[H.size]? = some (arrV cA n.toNatClampNeg (fun _ => .null)) := by rw [← hH1, Array.getElem?_push_size, ← arrV_new]
  have o1 : ∀ q : Nat, q < H.size → H1[q]? = H[q]? := fun q hq => by rw [← hH1, Array.getElem?_push, if_neg (Nat.ne_of_lt hq)]
  have hcA : cA = d 6 := by
    obtain ⟨k9, c9, -, -, -, g9⟩ := (K.1.2 6 _ rfl).2
    exact Option.some.inj (f1.symm.trans g9)
  subst hcA
  have hk : ∀ (k : Nat) (x : Nat × va_E), ws[k]? = some x → H1[x.1]? = H[x.1]? := fun k x hx => o1 x.1 ((hP k x hx).lt)
  have hq : hC hs 21 u.2.1 0 = H.size := by rw [hC_id ht, hz]
  have hfl : xfill (hC hs) d (clr u.2.2 21 u.2.1) 21 u.2.1 0 (LC (dup u.1 21 u.2.1 n.toNatClampNeg) 21 u.2.1 0) = .inl (d 6, n.toNatClampNeg, .inr (.inr (.inr (.inr (fun _ => none))))) := by
    have e9 : LC_21n (dup u.1 21 u.2.1 n.toNatClampNeg) u.2.1 = n.toNatClampNeg := by unfold LC_21n; rw [dup_self]; rfl
    show Sum.inl (d 6, LC_21n (dup u.1 21 u.2.1 n.toNatClampNeg) u.2.1, Sum.inr (Sum.inr (Sum.inr (Sum.inr (aQ (hC hs) (clr u.2.2 21 u.2.1) 21 u.2.1 0))))) = _
    have e8 : aQ (hC hs) (clr u.2.2 21 u.2.1) 21 u.2.1 0 = fun _ => none := by
      funext k
      unfold aQ
      rw [gR_clrS, if_pos rfl]
    rw [e9, e8]
  obtain ⟨ix', r'⟩ := r.push (e := .inl (d 6, n.toNatClampNeg, .inr (.inr (.inr (.inr (fun _ => none)))))) hnone hq
  have hY : YH D A s.heap hs d (al u 21 n.toNatClampNeg) H1 locs := by
    refine ⟨⟨ws ++ [(H.size, .inl (d 6, n.toNatClampNeg, .inr (.inr (.inr (.inr (fun _ => none))))))], ix', (hP.kept hk).app (fun k x hx => ?_), hD.push hP rfl (K.2.2 _ hS.1), ⟨Nat.le_trans hS.1 (by omega), fun x h1 h2 => (o1 x (Nat.lt_of_lt_of_le h1 hS.1)).trans (hS.2.1 x h1 h2), hS.2.2⟩, ?_⟩, by show H1.size = u.2.1 + 1; omega⟩
    · have hz9 : k < 1 := (List.getElem?_eq_some_iff.mp hx).1
      rw [show k = 0 by omega] at hx
      cases hx
      exact e1
    · rw [xct_al ht hfresh, hfl]
      exact r'
  have h9 := kk H1 hY
  rw [← hz] at h9
  exact h9
theorem y_ast {r x j : Nat} (X : FX p m c meth s args own cc nL ret) (K : XK D d A s) (O : YH D A s.heap hs d u H locs) {i : Int32} {n : Nat} (hb : CB s u n cells slots) (hok : okC u.1 21 r 0 = true) (hi : okI i (LC_21n u.1 r) = true) (hj : i.toNatClampNeg = j) (hel : elo u.1 x = true) (hdg : decode cc pc = .ok (.aastore, 1))
    (kk : ∀ (H1 : Heap) (locs1 : List Loc), YH D A s.heap hs d (pss u (sR u.2.2 21 r 0 j (x + 1))) H1 locs1 → W p l e R s m args below meth c H1 locs1 cells slots Q (F0 m (pc + 1) ls rest)) : W p l e R s m args below meth c H locs cells slots Q (F0 m pc ls (.ref x :: .int i :: .ref r :: rest)) := by
  subst hj
  have hany := elo_any K O hel
  obtain ⟨ws, ix, hP, hD, hS, rl⟩ := O.1.self
  have h1 := rl.1 21 r 0 _ (xct_arr hok LC_21)
  refine va_astqM X.1.1 X.1.2.1 K.1 hP hD hS (ix 21 r 0) 6 h1 rfl hany (okI_in hi) hdg (fun H1 locs1 p1 d1 s1 => ?_)
  refine W.sz (fun hz => ?_)
  have h2 := rl.set (xct_arr hok LC_21) (.inl (d 6, LC_21n u.1 r, .inr (.inr (.inr (.inr (va_up (aQ (hC hs) u.2.2 21 r 0) i.toNatClampNeg (some x)))))))
  have h3 := xw_astQ (L := LC u.1) (h := hC hs) (d := d) (σ := u.2.2) i.toNatClampNeg (x + 1) hok LC_21
  rw [if_neg (by omega), hC_id (by decide), Nat.add_sub_cancel] at h3
  rw [h3] at h2
  exact kk H1 locs1 (O.put (σ1 := sR u.2.2 21 r 0 i.toNatClampNeg (x + 1)) ⟨_, ix, p1, d1, s1, h2⟩ hb hz)
theorem y_astN {r j : Nat} (X : FX p m c meth s args own cc nL ret) (K : XK D d A s) (O : YH D A s.heap hs d u H locs) {i : Int32} {n : Nat} (hb : CB s u n cells slots) (hok : okC u.1 21 r 0 = true) (hi : okI i (LC_21n u.1 r) = true) (hj : i.toNatClampNeg = j) (hdg : decode cc pc = .ok (.aastore, 1))
    (kk : ∀ (H1 : Heap) (locs1 : List Loc), YH D A s.heap hs d (pss u (sR u.2.2 21 r 0 j 0)) H1 locs1 → W p l e R s m args below meth c H1 locs1 cells slots Q (F0 m (pc + 1) ls rest)) : W p l e R s m args below meth c H locs cells slots Q (F0 m pc ls (.null :: .int i :: .ref r :: rest)) := by
  subst hj
  obtain ⟨ws, ix, hP, hD, hS, rl⟩ := O.1.self
  have h1 := rl.1 21 r 0 _ (xct_arr hok LC_21)
  refine va_astqN (C := "java/lang/Object") X.1.1 X.1.2.1 K.1 hP hD hS (ix 21 r 0) 6 h1 rfl (okI_in hi) hdg (fun H1 locs1 p1 d1 s1 => ?_)
  refine W.sz (fun hz => ?_)
  have h2 := rl.set (xct_arr hok LC_21) (.inl (d 6, LC_21n u.1 r, .inr (.inr (.inr (.inr (va_up (aQ (hC hs) u.2.2 21 r 0) i.toNatClampNeg none))))))
  have h3 := xw_astQ (L := LC u.1) (h := hC hs) (d := d) (σ := u.2.2) i.toNatClampNeg 0 hok LC_21
  rw [if_pos rfl] at h3
  rw [h3] at h2
  exact kk H1 locs1 (O.put (σ1 := sR u.2.2 21 r 0 i.toNatClampNeg 0) ⟨_, ix, p1, d1, s1, h2⟩ hb hz)
theorem y_copy {r0 r1 : Nat} (X : FX p m c meth s args own cc nL ret) (K : XK D d A s) (O : YH D A s.heap hs d u H locs) {k : Int32} {n idx : Nat} (hb : CB s u n cells slots) (h0 : okC u.1 21 r0 0 = true) (h1 : okC u.1 21 r1 0 = true) (hk0 : ¬ k < 0) (hk1 : k.toNatClampNeg ≤ LC_21n u.1 r0) (hk2 : k.toNatClampNeg ≤ LC_21n u.1 r1) (hel : elsOk u r0 k.toNatClampNeg = true) (hlink : Cond.methodLink own idx arraycopyName ∈ lw_all) (hsz : ls.size = nL) (hf : 1 ≤ R.frames) (hlo : (rest.map fun v => v.category).sum + (nativeFrameWords "java/lang/System" "arraycopy" 5 + 11) ≤ R.locals) (hdg : decode cc pc = .ok (.invokestatic idx, 3))
    (kk : ∀ (H1 : Heap) (locs1 : List Loc), YH D A s.heap hs d (pss u (cpR u.2.2 r0 r1 k.toNatClampNeg)) H1 locs1 → W p l e R s m args below meth c H1 locs1 cells slots Q (F0 m (pc + 3) ls rest)) : W p l e R s m args below meth c H locs cells slots Q (F0 m pc ls (.int k :: .int 0 :: .ref r1 :: .int 0 :: .ref r0 :: rest)) := by
  have hany : ∀ x, elo u.1 x = true → va_Any "java/lang/Object" s H x := fun x hx => elo_any K O hx
  obtain ⟨ws, ix, hP, hD, hS, rl⟩ := O.1.self
  have g0 := rl.1 21 r0 0 _ (xct_arr h0 LC_21)
  have g1 := rl.1 21 r1 0 _ (xct_arr h1 LC_21)
  refine va_copyM (E0 := "java/lang/Object") (E1 := "java/lang/Object") X.1.1 X.1.2.1 (X.1.2.2.1.trans hsz.symm) X.1.2.2.2.1 (X.1.2.2.2.2 _ hlink) (X.1.2.2.2.2 _ q234) (X.1.2.2.2.2 _ q233) (X.1.2.2.2.2 _ q118) K.1 hP hD hS (ix 21 r0 0) (ix 21 r1 0) 6 6 g0 g1 rfl rfl (sp := 0) (dp := 0) (by decide) (by decide) hk0 (by show 0 + _ ≤ _; omega) (by show 0 + _ ≤ _; omega) (fun i hi y hy => ?_) hf hlo hdg (fun H1 locs1 p1 d1 s1 => ?_)
  · have h9 : aQ (hC hs) u.2.2 21 r0 0 (0 + i) = some y := hy
    unfold aQ at h9
    have h8 := List.all_eq_true.mp hel i (List.mem_range.mpr hi)
    rw [Nat.zero_add] at h9
    by_cases hg : gR u.2.2 21 r0 0 i = 0
    · rw [if_pos hg] at h9
      cases h9
    · rw [if_neg hg] at h9
      cases h9
      rw [Bool.or_eq_true] at h8
      rcases h8 with h8 | h8
      · exact absurd (of_decide_eq_true h8) hg
      · have := hany _ h8
        rw [hC_id (by decide)]
        exact this
  refine W.sz (fun hz => ?_)
  have h2 := rl.set (xct_arr h1 LC_21) (.inl (d 6, LC_21n u.1 r1, .inr (.inr (.inr (.inr (va_cpy (aQ (hC hs) u.2.2 21 r0 0) (aQ (hC hs) u.2.2 21 r1 0) 0 0 k.toNatClampNeg))))))
  rw [xw_cpy h1 LC_21] at h2
  exact kk H1 locs1 (O.put (σ1 := cpR u.2.2 r0 r1 k.toNatClampNeg) ⟨_, ix, p1, d1, s1, h2⟩ hb hz)
theorem y_gmc {v : Nat} (X : FX p m c meth s args RJ2 cc nL ret) (K : XK D d A s) (O : YH D A s.heap hs d u H locs) (hok : okC u.1 20 v 0 = true) (hdg : decode cc pc = .ok (.getfield 63, 3)) (kk : W p l e R s m args below meth c H locs cells slots Q (F0 m (pc + 3) ls (.int (gI u.2.2 20 v 0 0) :: rest))) : W p l e R s m args below meth c H locs cells slots Q (F0 m pc ls (.ref (hC hs 20 v 0) :: rest)) := by
  obtain ⟨⟨ws, ix, hP, hD, hS, r⟩, hz⟩ := O
  exact va_get (v := .int (gI u.2.2 20 v 0 0)) X.1.1 X.1.2.1 X.1.2.2.2.2 in_J2 X.1.2.2.2.1 K.1 hP (ix 20 v 0) (r.1 20 v 0 _ (xct_obj hok LC_20)) rfl 0 (by decide) (X.1.2.2.2.2 _ q165) (u_same (X.1.2.2.2.2 _ q166)) rfl hdg kk
theorem y_pmc {v : Nat} {x : Int32} (X : FX p m c meth s args RJ2 cc nL ret) (K : XK D d A s) (O : YH D A s.heap hs d u H locs) {n : Nat} (hb : CB s u n cells slots) (hok : okC u.1 20 v 0 = true) (hdg : decode cc pc = .ok (.putfield 63, 3)) (kk : ∀ (H1 : Heap) (locs1 : List Loc), YH D A s.heap hs d (pss u (sI u.2.2 20 v 0 0 x)) H1 locs1 → W p l e R s m args below meth c H1 locs1 cells slots Q (F0 m (pc + 3) ls rest)) : W p l e R s m args below meth c H locs cells slots Q (F0 m pc ls (.int x :: .ref (hC hs 20 v 0) :: rest)) := by
  obtain ⟨ws, ix, hP, hD, hS, r⟩ := O.1.self
  refine va_put (v := .int x) (ty := .int) X.1.1 X.1.2.1 X.1.2.2.2.2 in_J2 tyJ2 tyJ2_ok nmJ2 X.1.2.2.2.1 K.1 hP hD hS (ix 20 v 0) (r.1 20 v 0 _ (xct_obj hok LC_20)) rfl 0 (by decide) (X.1.2.2.2.2 _ q165) (u_same (X.1.2.2.2.2 _ q166)) rfl rfl rfl rfl (by rw [xfs_len]; decide) hdg (fun H1 locs1 p1 d1 s1 => ?_)
  refine W.sz (fun hz => ?_)
  have h2 := r.set (xct_obj hok LC_20) (.inr (13, (xfs (hC hs) u.2.2 20 v 0 0 sp20).set 0 (.int x)))
  rw [xw_putI x hok LC_20 rfl] at h2
  exact kk H1 locs1 (O.put (σ1 := sI u.2.2 20 v 0 0 x) ⟨_, ix, p1, d1, s1, h2⟩ hb hz)
theorem y_getC {adK adV : Nat → Nat} {e0 r : Nat} (X : FX p m c meth s args RJ5 cc nL ret) (K : XK D d A s) (hE : ES adK adV e0 A s) (O : YH D A s.heap hs d u H locs) (hok : okC u.1 21 r 0 = true) (hsz : ls.size = nL) (hf : 1 ≤ R.frames) (hlo : (rest.map fun v => v.category).sum + 14 ≤ R.locals) (hdg : decode cc pc = .ok (.invokevirtual 86, 3)) (kk : W p l e R s m args below meth c H locs cells slots Q (F0 m (pc + 3) ls (.ref (adK 22) :: rest))) : W p l e R s m args below meth c H locs cells slots Q (F0 m pc ls (.ref r :: rest)) := by
  obtain ⟨⟨ws, ix, hP, hD, hS, rl⟩, hz⟩ := O
  have g0 := rl.1 21 r 0 _ (xct_arr hok LC_21)
  have g1 := hP _ _ g0
  obtain ⟨k9, c9, -, -, -, g9⟩ := (K.1.2 6 _ rfl).2
  exact va_getC X.1.1 X.1.2.1 (X.1.2.2.1.trans hsz.symm) X.1.2.2.2.1 (X.1.2.2.2.2 _ q204) (va_Nw.use rfl (K.2.1.2.2.1 _ q1728)) (X.1.2.2.2.2 _ q1727) (X.1.2.2.2.2 _ q205) (X.1.2.2.2.2 _ q222) hE.2.2.2.2.2.2.2.2 ⟨_, g1, rfl, g9⟩ hf hlo hdg kk
theorem y_ldcM {adK adV : Nat → Nat} {e0 : Nat} (X : FX p m c meth s args RJ5 cc nL ret) (hE : ES adK adV e0 A s) (hdg : decode cc pc = .ok (.ldc 110, 2)) (kk : W p l e R s m args below meth c H locs cells slots Q (F0 m (pc + 2) ls (.ref (adK 22) :: rest))) : W p l e R s m args below meth c H locs cells slots Q (F0 m pc ls rest) :=
  va_ldcM X.1.1 X.1.2.1 X.1.2.2.2.1 (X.1.2.2.2.2 _ q226) hE.2.2.2.2.2.2.2.2 hdg kk
end ZL
