/-! ROWS at the machine, over a world laid by tags; contracts and calls -/
section XR
variable {p : Program} {l : Launch} {e : Env} {R : Room} {s : State} {m : MethodId} {args : Array Value} {below : List Frame} {meth : Method} {c : Code} {H : Heap} {locs : List Loc} {cells slots : Nat} {Q : State → Prop}
variable {cc : ByteArray} {nL : Nat} {ret : Option FieldType} {own : String} {pc : Nat} {ls : Array Slot} {rest : List Value} {D : va_G} {A : Nat → Prop} {h : IX} {d : Nat → ClassId} {L : LY} {ok : Nat → Nat → Nat → Bool} {σ : ST} {H0 : Heap}
theorem x_get (X : FX p m c meth s args own cc nL ret) (K : XK D d A s) {ct : CT} (O : XH D A H0 h ct H locs) {t a b ci : Nat} (k : Nat) {fs : List Value} {C : String} {T : u_T} {N idx : Nat} {v : Value} (he : ct t a b = some (.inr (ci, fs))) (hc : vwCl[ci]? = some (C, T, N)) (hin : ∀ w ∈ u_ws C T N, w ∈ lw_all) (hk : k < N) (hlink : Cond.fieldLink own idx (T k).1 (T k).2.1 (T k).2.2.1 ∈ lw_all) (hv : fs[k]? = some v) (hdg : decode cc pc = .ok (.getfield idx, 3))
    (kk : W p l e R s m args below meth c H locs cells slots Q (F0 m (pc + 3) ls (v :: rest))) : W p l e R s m args below meth c H locs cells slots Q (F0 m pc ls (.ref (h t a b) :: rest)) := by
  obtain ⟨ws, ix, hP, hD, hS, r⟩ := O
  exact va_get X.1.1 X.1.2.1 X.1.2.2.2.2 hin X.1.2.2.2.1 K.1 hP (ix t a b) (r.1 t a b _ he) hc k hk (X.1.2.2.2.2 _ hlink) (fun _ h => h) hv hdg kk
theorem x_getN (X : FX p m c meth s args own cc nL ret) (K : XK D d A s) {ct : CT} (O : XH D A H0 h ct H locs) {t a b ci : Nat} (k : Nat) {fs : List Value} {C host : String} {T : u_T} {N idx : Nat} {v : Value} (he : ct t a b = some (.inr (ci, fs))) (hc : vwCl[ci]? = some (C, T, N)) (hin : ∀ w ∈ u_ws C T N, w ∈ lw_all) (hk : k < N) (hlink : Cond.fieldLinkNest own idx (T k).1 (T k).2.1 (T k).2.2.1 host ∈ lw_tbl) (hv : fs[k]? = some v) (hdg : decode cc pc = .ok (.getfield idx, 3))
    (kk : W p l e R s m args below meth c H locs cells slots Q (F0 m (pc + 3) ls (v :: rest))) : W p l e R s m args below meth c H locs cells slots Q (F0 m pc ls (.ref (h t a b) :: rest)) := by
  obtain ⟨ws, ix, hP, hD, hS, r⟩ := O
  exact va_getN X.1.1 X.1.2.1 X.1.2.2.2.2 hin X.1.2.2.2.1 K.1 hP (ix t a b) (r.1 t a b _ he) hc k hk (va_Nw.use rfl (K.2.1.1 _ _ _ _ _ _ hlink)) (fun _ h => h) hv hdg kk
theorem x_put (X : FX p m c meth s args own cc nL ret) (K : XK D d A s) {ct : CT} (O : XH D A H0 h ct H locs) {t a b ci : Nat} (k : Nat) {fs : List Value} {C host : String} {T : u_T} {N idx : Nat} {v : Value} {ty : FieldType} {ty0 : Nat → FieldType} (he : ct t a b = some (.inr (ci, fs))) (hc : vwCl[ci]? = some (C, T, N)) (hin : ∀ w ∈ u_ws C T N, w ∈ lw_all) (hty : ∀ k, k < N → parseFieldDescriptor (T k).2.2.1 = some (ty0 k)) (hnm : ∀ a, a < N → ∀ b, b < N → a ≠ b → (T a).2.1 ≠ (T b).2.1) (hk : k < N) (hlink : Cond.fieldLink own idx (T k).1 (T k).2.1 (T k).2.2.1 ∈ lw_all) (hfin : (T k).2.2.2 = false) (hd : parseFieldDescriptor (T k).2.2.1 = some ty) (hn : narrow ty v = v) (hfit : fits ty v = true) (hl : k < fs.length) (hdg : decode cc pc = .ok (.putfield idx, 3))
    (kk : ∀ (H1 : Heap) (locs1 : List Loc), XH D A H0 h (up3 ct t a b (.inr (ci, fs.set k v))) H1 locs1 → W p l e R s m args below meth c H1 locs1 cells slots Q (F0 m (pc + 3) ls rest)) : W p l e R s m args below meth c H locs cells slots Q (F0 m pc ls (v :: .ref (h t a b) :: rest)) := by
  obtain ⟨ws, ix, hP, hD, hS, r⟩ := O
  exact va_put X.1.1 X.1.2.1 X.1.2.2.2.2 hin ty0 hty hnm X.1.2.2.2.1 K.1 hP hD hS (ix t a b) (r.1 t a b _ he) hc k hk (X.1.2.2.2.2 _ hlink) (fun _ h => h) hfin hd hn hfit hl hdg (fun H1 locs1 h1 h2 h3 => kk H1 locs1 ⟨_, _, h1, h2, h3, r.set he _⟩)
theorem x_putN (X : FX p m c meth s args own cc nL ret) (K : XK D d A s) {ct : CT} (O : XH D A H0 h ct H locs) {t a b ci : Nat} (k : Nat) {fs : List Value} {C host : String} {T : u_T} {N idx : Nat} {v : Value} {ty : FieldType} {ty0 : Nat → FieldType} (he : ct t a b = some (.inr (ci, fs))) (hc : vwCl[ci]? = some (C, T, N)) (hin : ∀ w ∈ u_ws C T N, w ∈ lw_all) (hty : ∀ k, k < N → parseFieldDescriptor (T k).2.2.1 = some (ty0 k)) (hnm : ∀ a, a < N → ∀ b, b < N → a ≠ b → (T a).2.1 ≠ (T b).2.1) (hk : k < N) (hlink : Cond.fieldLinkNest own idx (T k).1 (T k).2.1 (T k).2.2.1 host ∈ lw_tbl) (hfin : (T k).2.2.2 = false) (hd : parseFieldDescriptor (T k).2.2.1 = some ty) (hn : narrow ty v = v) (hfit : fits ty v = true) (hl : k < fs.length) (hdg : decode cc pc = .ok (.putfield idx, 3))
    (kk : ∀ (H1 : Heap) (locs1 : List Loc), XH D A H0 h (up3 ct t a b (.inr (ci, fs.set k v))) H1 locs1 → W p l e R s m args below meth c H1 locs1 cells slots Q (F0 m (pc + 3) ls rest)) : W p l e R s m args below meth c H locs cells slots Q (F0 m pc ls (v :: .ref (h t a b) :: rest)) := by
  obtain ⟨ws, ix, hP, hD, hS, r⟩ := O
  exact va_putN X.1.1 X.1.2.1 X.1.2.2.2.2 hin ty0 hty hnm X.1.2.2.2.1 K.1 hP hD hS (ix t a b) (r.1 t a b _ he) hc k hk (va_Nw.use rfl (K.2.1.1 _ _ _ _ _ _ hlink)) (fun _ h => h) hfin hd hn hfit hl hdg (fun H1 locs1 h1 h2 h3 => kk H1 locs1 ⟨_, _, h1, h2, h3, r.set he _⟩)
theorem x_gI (X : FX p m c meth s args own cc nL ret) (K : XK D d A s) (O : XH D A H0 h (xct L ok h d σ) H locs) {t a b ci : Nat} (k : Nat) {sp : List (Nat × Nat × Nat × Nat)} {q : Nat × Nat × Nat} {C : String} {T : u_T} {N idx : Nat} (hok : ok t a b = true) (hL : L t a b = .inr (ci, sp)) (hs : sp[k]? = some (0, q)) (hc : vwCl[ci]? = some (C, T, N)) (hin : ∀ w ∈ u_ws C T N, w ∈ lw_all) (hk : k < N) (hlink : Cond.fieldLink own idx (T k).1 (T k).2.1 (T k).2.2.1 ∈ lw_all) (hdg : decode cc pc = .ok (.getfield idx, 3))
    (kk : W p l e R s m args below meth c H locs cells slots Q (F0 m (pc + 3) ls (.int (gI σ t a b k) :: rest))) : W p l e R s m args below meth c H locs cells slots Q (F0 m pc ls (.ref (h t a b) :: rest)) := by
  have e := xfs_get h σ t a b sp 0 k _ hs
  rw [Nat.zero_add] at e
  exact x_get X K O (ci := ci) k (by rw [xct_some hok, hL]; rfl) hc hin hk hlink e hdg kk
theorem x_gL (X : FX p m c meth s args own cc nL ret) (K : XK D d A s) (O : XH D A H0 h (xct L ok h d σ) H locs) {t a b ci : Nat} (k : Nat) {sp : List (Nat × Nat × Nat × Nat)} {q : Nat × Nat × Nat} {C : String} {T : u_T} {N idx : Nat} (hok : ok t a b = true) (hL : L t a b = .inr (ci, sp)) (hs : sp[k]? = some (1, q)) (hc : vwCl[ci]? = some (C, T, N)) (hin : ∀ w ∈ u_ws C T N, w ∈ lw_all) (hk : k < N) (hlink : Cond.fieldLink own idx (T k).1 (T k).2.1 (T k).2.2.1 ∈ lw_all) (hdg : decode cc pc = .ok (.getfield idx, 3))
    (kk : W p l e R s m args below meth c H locs cells slots Q (F0 m (pc + 3) ls (.long (gL σ t a b k) :: rest))) : W p l e R s m args below meth c H locs cells slots Q (F0 m pc ls (.ref (h t a b) :: rest)) := by
  have e := xfs_get h σ t a b sp 0 k _ hs
  rw [Nat.zero_add] at e
  exact x_get X K O (ci := ci) k (by rw [xct_some hok, hL]; rfl) hc hin hk hlink e hdg kk
theorem x_gF (X : FX p m c meth s args own cc nL ret) (K : XK D d A s) (O : XH D A H0 h (xct L ok h d σ) H locs) {t a b ci : Nat} (k : Nat) {sp : List (Nat × Nat × Nat × Nat)} {t1 a1 b1 : Nat} {C : String} {T : u_T} {N idx : Nat} (hok : ok t a b = true) (hL : L t a b = .inr (ci, sp)) (hs : sp[k]? = some (2, t1, a1, b1)) (hc : vwCl[ci]? = some (C, T, N)) (hin : ∀ w ∈ u_ws C T N, w ∈ lw_all) (hk : k < N) (hlink : Cond.fieldLink own idx (T k).1 (T k).2.1 (T k).2.2.1 ∈ lw_all) (hdg : decode cc pc = .ok (.getfield idx, 3))
    (kk : W p l e R s m args below meth c H locs cells slots Q (F0 m (pc + 3) ls (.ref (h t1 a1 b1) :: rest))) : W p l e R s m args below meth c H locs cells slots Q (F0 m pc ls (.ref (h t a b) :: rest)) := by
  have e := xfs_get h σ t a b sp 0 k _ hs
  rw [Nat.zero_add] at e
  exact x_get X K O (ci := ci) k (by rw [xct_some hok, hL]; rfl) hc hin hk hlink e hdg kk
theorem x_gR (X : FX p m c meth s args own cc nL ret) (K : XK D d A s) (O : XH D A H0 h (xct L ok h d σ) H locs) {t a b ci : Nat} (k : Nat) {sp : List (Nat × Nat × Nat × Nat)} {t1 : Nat} {q : Nat × Nat} {C : String} {T : u_T} {N idx : Nat} (hok : ok t a b = true) (hL : L t a b = .inr (ci, sp)) (hs : sp[k]? = some (3, t1, q)) (hc : vwCl[ci]? = some (C, T, N)) (hin : ∀ w ∈ u_ws C T N, w ∈ lw_all) (hk : k < N) (hlink : Cond.fieldLink own idx (T k).1 (T k).2.1 (T k).2.2.1 ∈ lw_all) (hdg : decode cc pc = .ok (.getfield idx, 3))
    (kk : W p l e R s m args below meth c H locs cells slots Q (F0 m (pc + 3) ls (.ref (h t1 (gR σ t a b k) 0) :: rest))) : W p l e R s m args below meth c H locs cells slots Q (F0 m pc ls (.ref (h t a b) :: rest)) := by
  have e := xfs_get h σ t a b sp 0 k _ hs
  rw [Nat.zero_add] at e
  exact x_get X K O (ci := ci) k (by rw [xct_some hok, hL]; rfl) hc hin hk hlink e hdg kk
theorem x_pI (X : FX p m c meth s args own cc nL ret) (K : XK D d A s) (O : XH D A H0 h (xct L ok h d σ) H locs) {t a b ci : Nat} (k : Nat) {sp : List (Nat × Nat × Nat × Nat)} {q : Nat × Nat × Nat} {C : String} {T : u_T} {N idx : Nat} {ty0 : Nat → FieldType} {x : Int32} (hok : ok t a b = true) (hL : L t a b = .inr (ci, sp)) (hs : sp[k]? = some (0, q)) (hc : vwCl[ci]? = some (C, T, N)) (hin : ∀ w ∈ u_ws C T N, w ∈ lw_all) (hty : ∀ k, k < N → parseFieldDescriptor (T k).2.2.1 = some (ty0 k)) (hnm : ∀ a, a < N → ∀ b, b < N → a ≠ b → (T a).2.1 ≠ (T b).2.1) (hk : k < N) (hlink : Cond.fieldLink own idx (T k).1 (T k).2.1 (T k).2.2.1 ∈ lw_all) (hfin : (T k).2.2.2 = false) (hn : narrow (ty0 k) (.int x) = .int x) (hfit : fits (ty0 k) (.int x) = true) (hdg : decode cc pc = .ok (.putfield idx, 3))
    (kk : ∀ (H1 : Heap) (locs1 : List Loc), XH D A H0 h (xct L ok h d (sI σ t a b k x)) H1 locs1 → W p l e R s m args below meth c H1 locs1 cells slots Q (F0 m (pc + 3) ls rest)) : W p l e R s m args below meth c H locs cells slots Q (F0 m pc ls (.int x :: .ref (h t a b) :: rest)) := by
  have e := xw_putI x hok hL hs (h := h) (d := d) (σ := σ)
  have hl : k < (xfs h σ t a b 0 sp).length := by rw [xfs_len]; exact (List.getElem?_eq_some_iff.mp hs).1
  exact x_put (host := "") X K O (ci := ci) k (by rw [xct_some hok, hL]; rfl) hc hin hty hnm hk hlink hfin (hty k hk) hn hfit hl hdg (fun H1 locs1 h1 => kk H1 locs1 (by rw [← e]; exact h1))
theorem x_pL (X : FX p m c meth s args own cc nL ret) (K : XK D d A s) (O : XH D A H0 h (xct L ok h d σ) H locs) {t a b ci : Nat} (k : Nat) {sp : List (Nat × Nat × Nat × Nat)} {q : Nat × Nat × Nat} {C : String} {T : u_T} {N idx : Nat} {ty0 : Nat → FieldType} {x : Int64} (hok : ok t a b = true) (hL : L t a b = .inr (ci, sp)) (hs : sp[k]? = some (1, q)) (hc : vwCl[ci]? = some (C, T, N)) (hin : ∀ w ∈ u_ws C T N, w ∈ lw_all) (hty : ∀ k, k < N → parseFieldDescriptor (T k).2.2.1 = some (ty0 k)) (hnm : ∀ a, a < N → ∀ b, b < N → a ≠ b → (T a).2.1 ≠ (T b).2.1) (hk : k < N) (hlink : Cond.fieldLink own idx (T k).1 (T k).2.1 (T k).2.2.1 ∈ lw_all) (hfin : (T k).2.2.2 = false) (hn : narrow (ty0 k) (.long x) = .long x) (hfit : fits (ty0 k) (.long x) = true) (hdg : decode cc pc = .ok (.putfield idx, 3))
    (kk : ∀ (H1 : Heap) (locs1 : List Loc), XH D A H0 h (xct L ok h d (sL σ t a b k x)) H1 locs1 → W p l e R s m args below meth c H1 locs1 cells slots Q (F0 m (pc + 3) ls rest)) : W p l e R s m args below meth c H locs cells slots Q (F0 m pc ls (.long x :: .ref (h t a b) :: rest)) := by
  have e := xw_putL x hok hL hs (h := h) (d := d) (σ := σ)
  have hl : k < (xfs h σ t a b 0 sp).length := by rw [xfs_len]; exact (List.getElem?_eq_some_iff.mp hs).1
  exact x_put (host := "") X K O (ci := ci) k (by rw [xct_some hok, hL]; rfl) hc hin hty hnm hk hlink hfin (hty k hk) hn hfit hl hdg (fun H1 locs1 h1 => kk H1 locs1 (by rw [← e]; exact h1))
theorem x_pR (X : FX p m c meth s args own cc nL ret) (K : XK D d A s) (O : XH D A H0 h (xct L ok h d σ) H locs) {t a b ci : Nat} (k : Nat) {sp : List (Nat × Nat × Nat × Nat)} {t1 : Nat} {q : Nat × Nat} {C : String} {T : u_T} {N idx : Nat} {ty0 : Nat → FieldType} {x : Nat} (hok : ok t a b = true) (hL : L t a b = .inr (ci, sp)) (hs : sp[k]? = some (3, t1, q)) (hc : vwCl[ci]? = some (C, T, N)) (hin : ∀ w ∈ u_ws C T N, w ∈ lw_all) (hty : ∀ k, k < N → parseFieldDescriptor (T k).2.2.1 = some (ty0 k)) (hnm : ∀ a, a < N → ∀ b, b < N → a ≠ b → (T a).2.1 ≠ (T b).2.1) (hk : k < N) (hlink : Cond.fieldLink own idx (T k).1 (T k).2.1 (T k).2.2.1 ∈ lw_all) (hfin : (T k).2.2.2 = false) (hn : narrow (ty0 k) (.ref (h t1 x 0)) = .ref (h t1 x 0)) (hfit : fits (ty0 k) (.ref (h t1 x 0)) = true) (hdg : decode cc pc = .ok (.putfield idx, 3))
    (kk : ∀ (H1 : Heap) (locs1 : List Loc), XH D A H0 h (xct L ok h d (sR σ t a b k x)) H1 locs1 → W p l e R s m args below meth c H1 locs1 cells slots Q (F0 m (pc + 3) ls rest)) : W p l e R s m args below meth c H locs cells slots Q (F0 m pc ls (.ref (h t1 x 0) :: .ref (h t a b) :: rest)) := by
  have e := xw_putR x hok hL hs (h := h) (d := d) (σ := σ)
  have hl : k < (xfs h σ t a b 0 sp).length := by rw [xfs_len]; exact (List.getElem?_eq_some_iff.mp hs).1
  exact x_put (host := "") X K O (ci := ci) k (by rw [xct_some hok, hL]; rfl) hc hin hty hnm hk hlink hfin (hty k hk) hn hfit hl hdg (fun H1 locs1 h1 => kk H1 locs1 (by rw [← e]; exact h1))
theorem x_pQ (X : FX p m c meth s args own cc nL ret) (K : XK D d A s) (O : XH D A H0 h (xct L ok h d σ) H locs) {t a b ci : Nat} (k : Nat) {sp : List (Nat × Nat × Nat × Nat)} {t1 : Nat} {q : Nat × Nat} {C : String} {T : u_T} {N idx : Nat} {ty0 : Nat → FieldType} {x : Nat} (hok : ok t a b = true) (hL : L t a b = .inr (ci, sp)) (hs : sp[k]? = some (4, t1, q)) (hc : vwCl[ci]? = some (C, T, N)) (hin : ∀ w ∈ u_ws C T N, w ∈ lw_all) (hty : ∀ k, k < N → parseFieldDescriptor (T k).2.2.1 = some (ty0 k)) (hnm : ∀ a, a < N → ∀ b, b < N → a ≠ b → (T a).2.1 ≠ (T b).2.1) (hk : k < N) (hlink : Cond.fieldLink own idx (T k).1 (T k).2.1 (T k).2.2.1 ∈ lw_all) (hfin : (T k).2.2.2 = false) (hn : narrow (ty0 k) (.ref (h t1 x 0)) = .ref (h t1 x 0)) (hfit : fits (ty0 k) (.ref (h t1 x 0)) = true) (hdg : decode cc pc = .ok (.putfield idx, 3))
    (kk : ∀ (H1 : Heap) (locs1 : List Loc), XH D A H0 h (xct L ok h d (sR σ t a b k (x + 1))) H1 locs1 → W p l e R s m args below meth c H1 locs1 cells slots Q (F0 m (pc + 3) ls rest)) : W p l e R s m args below meth c H locs cells slots Q (F0 m pc ls (.ref (h t1 x 0) :: .ref (h t a b) :: rest)) := by
  have e := xw_putQ x hok hL hs (h := h) (d := d) (σ := σ)
  have hl : k < (xfs h σ t a b 0 sp).length := by rw [xfs_len]; exact (List.getElem?_eq_some_iff.mp hs).1
  exact x_put (host := "") X K O (ci := ci) k (by rw [xct_some hok, hL]; rfl) hc hin hty hnm hk hlink hfin (hty k hk) hn hfit hl hdg (fun H1 locs1 h1 => kk H1 locs1 (by rw [← e]; exact h1))
theorem x_gIN (X : FX p m c meth s args own cc nL ret) (K : XK D d A s) (O : XH D A H0 h (xct L ok h d σ) H locs) {t a b ci : Nat} (k : Nat) {sp : List (Nat × Nat × Nat × Nat)} {q : Nat × Nat × Nat} {C : String} {host : String} {T : u_T} {N idx : Nat} (hok : ok t a b = true) (hL : L t a b = .inr (ci, sp)) (hs : sp[k]? = some (0, q)) (hc : vwCl[ci]? = some (C, T, N)) (hin : ∀ w ∈ u_ws C T N, w ∈ lw_all) (hk : k < N) (hlink : Cond.fieldLinkNest own idx (T k).1 (T k).2.1 (T k).2.2.1 host ∈ lw_tbl) (hdg : decode cc pc = .ok (.getfield idx, 3))
    (kk : W p l e R s m args below meth c H locs cells slots Q (F0 m (pc + 3) ls (.int (gI σ t a b k) :: rest))) : W p l e R s m args below meth c H locs cells slots Q (F0 m pc ls (.ref (h t a b) :: rest)) := by
  have e := xfs_get h σ t a b sp 0 k _ hs
  rw [Nat.zero_add] at e
  exact x_getN X K O (ci := ci) k (by rw [xct_some hok, hL]; rfl) hc hin hk hlink e hdg kk
theorem x_gLN (X : FX p m c meth s args own cc nL ret) (K : XK D d A s) (O : XH D A H0 h (xct L ok h d σ) H locs) {t a b ci : Nat} (k : Nat) {sp : List (Nat × Nat × Nat × Nat)} {q : Nat × Nat × Nat} {C : String} {host : String} {T : u_T} {N idx : Nat} (hok : ok t a b = true) (hL : L t a b = .inr (ci, sp)) (hs : sp[k]? = some (1, q)) (hc : vwCl[ci]? = some (C, T, N)) (hin : ∀ w ∈ u_ws C T N, w ∈ lw_all) (hk : k < N) (hlink : Cond.fieldLinkNest own idx (T k).1 (T k).2.1 (T k).2.2.1 host ∈ lw_tbl) (hdg : decode cc pc = .ok (.getfield idx, 3))
    (kk : W p l e R s m args below meth c H locs cells slots Q (F0 m (pc + 3) ls (.long (gL σ t a b k) :: rest))) : W p l e R s m args below meth c H locs cells slots Q (F0 m pc ls (.ref (h t a b) :: rest)) := by
  have e := xfs_get h σ t a b sp 0 k _ hs
  rw [Nat.zero_add] at e
  exact x_getN X K O (ci := ci) k (by rw [xct_some hok, hL]; rfl) hc hin hk hlink e hdg kk
theorem x_gFN (X : FX p m c meth s args own cc nL ret) (K : XK D d A s) (O : XH D A H0 h (xct L ok h d σ) H locs) {t a b ci : Nat} (k : Nat) {sp : List (Nat × Nat × Nat × Nat)} {t1 a1 b1 : Nat} {C : String} {host : String} {T : u_T} {N idx : Nat} (hok : ok t a b = true) (hL : L t a b = .inr (ci, sp)) (hs : sp[k]? = some (2, t1, a1, b1)) (hc : vwCl[ci]? = some (C, T, N)) (hin : ∀ w ∈ u_ws C T N, w ∈ lw_all) (hk : k < N) (hlink : Cond.fieldLinkNest own idx (T k).1 (T k).2.1 (T k).2.2.1 host ∈ lw_tbl) (hdg : decode cc pc = .ok (.getfield idx, 3))
    (kk : W p l e R s m args below meth c H locs cells slots Q (F0 m (pc + 3) ls (.ref (h t1 a1 b1) :: rest))) : W p l e R s m args below meth c H locs cells slots Q (F0 m pc ls (.ref (h t a b) :: rest)) := by
  have e := xfs_get h σ t a b sp 0 k _ hs
  rw [Nat.zero_add] at e
  exact x_getN X K O (ci := ci) k (by rw [xct_some hok, hL]; rfl) hc hin hk hlink e hdg kk
theorem x_gRN (X : FX p m c meth s args own cc nL ret) (K : XK D d A s) (O : XH D A H0 h (xct L ok h d σ) H locs) {t a b ci : Nat} (k : Nat) {sp : List (Nat × Nat × Nat × Nat)} {t1 : Nat} {q : Nat × Nat} {C : String} {host : String} {T : u_T} {N idx : Nat} (hok : ok t a b = true) (hL : L t a b = .inr (ci, sp)) (hs : sp[k]? = some (3, t1, q)) (hc : vwCl[ci]? = some (C, T, N)) (hin : ∀ w ∈ u_ws C T N, w ∈ lw_all) (hk : k < N) (hlink : Cond.fieldLinkNest own idx (T k).1 (T k).2.1 (T k).2.2.1 host ∈ lw_tbl) (hdg : decode cc pc = .ok (.getfield idx, 3))
    (kk : W p l e R s m args below meth c H locs cells slots Q (F0 m (pc + 3) ls (.ref (h t1 (gR σ t a b k) 0) :: rest))) : W p l e R s m args below meth c H locs cells slots Q (F0 m pc ls (.ref (h t a b) :: rest)) := by
  have e := xfs_get h σ t a b sp 0 k _ hs
  rw [Nat.zero_add] at e
  exact x_getN X K O (ci := ci) k (by rw [xct_some hok, hL]; rfl) hc hin hk hlink e hdg kk
theorem x_pIN (X : FX p m c meth s args own cc nL ret) (K : XK D d A s) (O : XH D A H0 h (xct L ok h d σ) H locs) {t a b ci : Nat} (k : Nat) {sp : List (Nat × Nat × Nat × Nat)} {q : Nat × Nat × Nat} {C : String} {host : String} {T : u_T} {N idx : Nat} {ty0 : Nat → FieldType} {x : Int32} (hok : ok t a b = true) (hL : L t a b = .inr (ci, sp)) (hs : sp[k]? = some (0, q)) (hc : vwCl[ci]? = some (C, T, N)) (hin : ∀ w ∈ u_ws C T N, w ∈ lw_all) (hty : ∀ k, k < N → parseFieldDescriptor (T k).2.2.1 = some (ty0 k)) (hnm : ∀ a, a < N → ∀ b, b < N → a ≠ b → (T a).2.1 ≠ (T b).2.1) (hk : k < N) (hlink : Cond.fieldLinkNest own idx (T k).1 (T k).2.1 (T k).2.2.1 host ∈ lw_tbl) (hfin : (T k).2.2.2 = false) (hn : narrow (ty0 k) (.int x) = .int x) (hfit : fits (ty0 k) (.int x) = true) (hdg : decode cc pc = .ok (.putfield idx, 3))
    (kk : ∀ (H1 : Heap) (locs1 : List Loc), XH D A H0 h (xct L ok h d (sI σ t a b k x)) H1 locs1 → W p l e R s m args below meth c H1 locs1 cells slots Q (F0 m (pc + 3) ls rest)) : W p l e R s m args below meth c H locs cells slots Q (F0 m pc ls (.int x :: .ref (h t a b) :: rest)) := by
  have e := xw_putI x hok hL hs (h := h) (d := d) (σ := σ)
  have hl : k < (xfs h σ t a b 0 sp).length := by rw [xfs_len]; exact (List.getElem?_eq_some_iff.mp hs).1
  exact x_putN X K O (ci := ci) k (by rw [xct_some hok, hL]; rfl) hc hin hty hnm hk hlink hfin (hty k hk) hn hfit hl hdg (fun H1 locs1 h1 => kk H1 locs1 (by rw [← e]; exact h1))
theorem x_pLN (X : FX p m c meth s args own cc nL ret) (K : XK D d A s) (O : XH D A H0 h (xct L ok h d σ) H locs) {t a b ci : Nat} (k : Nat) {sp : List (Nat × Nat × Nat × Nat)} {q : Nat × Nat × Nat} {C : String} {host : String} {T : u_T} {N idx : Nat} {ty0 : Nat → FieldType} {x : Int64} (hok : ok t a b = true) (hL : L t a b = .inr (ci, sp)) (hs : sp[k]? = some (1, q)) (hc : vwCl[ci]? = some (C, T, N)) (hin : ∀ w ∈ u_ws C T N, w ∈ lw_all) (hty : ∀ k, k < N → parseFieldDescriptor (T k).2.2.1 = some (ty0 k)) (hnm : ∀ a, a < N → ∀ b, b < N → a ≠ b → (T a).2.1 ≠ (T b).2.1) (hk : k < N) (hlink : Cond.fieldLinkNest own idx (T k).1 (T k).2.1 (T k).2.2.1 host ∈ lw_tbl) (hfin : (T k).2.2.2 = false) (hn : narrow (ty0 k) (.long x) = .long x) (hfit : fits (ty0 k) (.long x) = true) (hdg : decode cc pc = .ok (.putfield idx, 3))
    (kk : ∀ (H1 : Heap) (locs1 : List Loc), XH D A H0 h (xct L ok h d (sL σ t a b k x)) H1 locs1 → W p l e R s m args below meth c H1 locs1 cells slots Q (F0 m (pc + 3) ls rest)) : W p l e R s m args below meth c H locs cells slots Q (F0 m pc ls (.long x :: .ref (h t a b) :: rest)) := by
  have e := xw_putL x hok hL hs (h := h) (d := d) (σ := σ)
  have hl : k < (xfs h σ t a b 0 sp).length := by rw [xfs_len]; exact (List.getElem?_eq_some_iff.mp hs).1
  exact x_putN X K O (ci := ci) k (by rw [xct_some hok, hL]; rfl) hc hin hty hnm hk hlink hfin (hty k hk) hn hfit hl hdg (fun H1 locs1 h1 => kk H1 locs1 (by rw [← e]; exact h1))
theorem x_pRN (X : FX p m c meth s args own cc nL ret) (K : XK D d A s) (O : XH D A H0 h (xct L ok h d σ) H locs) {t a b ci : Nat} (k : Nat) {sp : List (Nat × Nat × Nat × Nat)} {t1 : Nat} {q : Nat × Nat} {C : String} {host : String} {T : u_T} {N idx : Nat} {ty0 : Nat → FieldType} {x : Nat} (hok : ok t a b = true) (hL : L t a b = .inr (ci, sp)) (hs : sp[k]? = some (3, t1, q)) (hc : vwCl[ci]? = some (C, T, N)) (hin : ∀ w ∈ u_ws C T N, w ∈ lw_all) (hty : ∀ k, k < N → parseFieldDescriptor (T k).2.2.1 = some (ty0 k)) (hnm : ∀ a, a < N → ∀ b, b < N → a ≠ b → (T a).2.1 ≠ (T b).2.1) (hk : k < N) (hlink : Cond.fieldLinkNest own idx (T k).1 (T k).2.1 (T k).2.2.1 host ∈ lw_tbl) (hfin : (T k).2.2.2 = false) (hn : narrow (ty0 k) (.ref (h t1 x 0)) = .ref (h t1 x 0)) (hfit : fits (ty0 k) (.ref (h t1 x 0)) = true) (hdg : decode cc pc = .ok (.putfield idx, 3))
    (kk : ∀ (H1 : Heap) (locs1 : List Loc), XH D A H0 h (xct L ok h d (sR σ t a b k x)) H1 locs1 → W p l e R s m args below meth c H1 locs1 cells slots Q (F0 m (pc + 3) ls rest)) : W p l e R s m args below meth c H locs cells slots Q (F0 m pc ls (.ref (h t1 x 0) :: .ref (h t a b) :: rest)) := by
  have e := xw_putR x hok hL hs (h := h) (d := d) (σ := σ)
  have hl : k < (xfs h σ t a b 0 sp).length := by rw [xfs_len]; exact (List.getElem?_eq_some_iff.mp hs).1
  exact x_putN X K O (ci := ci) k (by rw [xct_some hok, hL]; rfl) hc hin hty hnm hk hlink hfin (hty k hk) hn hfit hl hdg (fun H1 locs1 h1 => kk H1 locs1 (by rw [← e]; exact h1))
theorem x_pQN (X : FX p m c meth s args own cc nL ret) (K : XK D d A s) (O : XH D A H0 h (xct L ok h d σ) H locs) {t a b ci : Nat} (k : Nat) {sp : List (Nat × Nat × Nat × Nat)} {t1 : Nat} {q : Nat × Nat} {C : String} {host : String} {T : u_T} {N idx : Nat} {ty0 : Nat → FieldType} {x : Nat} (hok : ok t a b = true) (hL : L t a b = .inr (ci, sp)) (hs : sp[k]? = some (4, t1, q)) (hc : vwCl[ci]? = some (C, T, N)) (hin : ∀ w ∈ u_ws C T N, w ∈ lw_all) (hty : ∀ k, k < N → parseFieldDescriptor (T k).2.2.1 = some (ty0 k)) (hnm : ∀ a, a < N → ∀ b, b < N → a ≠ b → (T a).2.1 ≠ (T b).2.1) (hk : k < N) (hlink : Cond.fieldLinkNest own idx (T k).1 (T k).2.1 (T k).2.2.1 host ∈ lw_tbl) (hfin : (T k).2.2.2 = false) (hn : narrow (ty0 k) (.ref (h t1 x 0)) = .ref (h t1 x 0)) (hfit : fits (ty0 k) (.ref (h t1 x 0)) = true) (hdg : decode cc pc = .ok (.putfield idx, 3))
    (kk : ∀ (H1 : Heap) (locs1 : List Loc), XH D A H0 h (xct L ok h d (sR σ t a b k (x + 1))) H1 locs1 → W p l e R s m args below meth c H1 locs1 cells slots Q (F0 m (pc + 3) ls rest)) : W p l e R s m args below meth c H locs cells slots Q (F0 m pc ls (.ref (h t1 x 0) :: .ref (h t a b) :: rest)) := by
  have e := xw_putQ x hok hL hs (h := h) (d := d) (σ := σ)
  have hl : k < (xfs h σ t a b 0 sp).length := by rw [xfs_len]; exact (List.getElem?_eq_some_iff.mp hs).1
  exact x_putN X K O (ci := ci) k (by rw [xct_some hok, hL]; rfl) hc hin hty hnm hk hlink hfin (hty k hk) hn hfit hl hdg (fun H1 locs1 h1 => kk H1 locs1 (by rw [← e]; exact h1))
theorem x_ild (X : FX p m c meth s args own cc nL ret) (K : XK D d A s) (O : XH D A H0 h (xct L ok h d σ) H locs) {t a b n q : Nat} {i : Int32} (hok : ok t a b = true) (hL : L t a b = .inl (0, n, q)) (hi : okI i n = true) {j : Nat} (hj : i.toNatClampNeg = j) (hdg : decode cc pc = .ok (.iaload, 1))
    (kk : W p l e R s m args below meth c H locs cells slots Q (F0 m (pc + 1) ls (.int (gI σ t a b j) :: rest))) : W p l e R s m args below meth c H locs cells slots Q (F0 m pc ls (.int i :: .ref (h t a b) :: rest)) := by
  subst hj
  obtain ⟨ws, ix, hP, hD, hS, r⟩ := O
  exact va_iald X.1.1 X.1.2.1 K.1 hP (ix t a b) 0 (r.1 t a b (.inl (d 0, n, .inl (gI σ t a b))) (by rw [xct_some hok, hL]; rfl)) rfl (okI_in hi) hdg kk
theorem x_bld (X : FX p m c meth s args own cc nL ret) (K : XK D d A s) (O : XH D A H0 h (xct L ok h d σ) H locs) {t a b n q : Nat} {i : Int32} (hok : ok t a b = true) (hL : L t a b = .inl (2, n, q)) (hi : okI i n = true) {j : Nat} (hj : i.toNatClampNeg = j) (hdg : decode cc pc = .ok (.baload, 1))
    (kk : W p l e R s m args below meth c H locs cells slots Q (F0 m (pc + 1) ls (.int (gI σ t a b j) :: rest))) : W p l e R s m args below meth c H locs cells slots Q (F0 m pc ls (.int i :: .ref (h t a b) :: rest)) := by
  subst hj
  obtain ⟨ws, ix, hP, hD, hS, r⟩ := O
  exact va_bald X.1.1 X.1.2.1 K.1 hP (ix t a b) 2 (r.1 t a b (.inl (d 2, n, .inl (gI σ t a b))) (by rw [xct_some hok, hL]; rfl)) rfl (okI_in hi) hdg kk
theorem x_lld (X : FX p m c meth s args own cc nL ret) (K : XK D d A s) (O : XH D A H0 h (xct L ok h d σ) H locs) {t a b n q : Nat} {i : Int32} (hok : ok t a b = true) (hL : L t a b = .inl (1, n, q)) (hi : okI i n = true) {j : Nat} (hj : i.toNatClampNeg = j) (hdg : decode cc pc = .ok (.laload, 1))
    (kk : W p l e R s m args below meth c H locs cells slots Q (F0 m (pc + 1) ls (.long (gL σ t a b j) :: rest))) : W p l e R s m args below meth c H locs cells slots Q (F0 m pc ls (.int i :: .ref (h t a b) :: rest)) := by
  subst hj
  obtain ⟨ws, ix, hP, hD, hS, r⟩ := O
  exact va_lald X.1.1 X.1.2.1 K.1 hP (ix t a b) 1 (r.1 t a b (.inl (d 1, n, .inr (.inl (gL σ t a b)))) (by rw [xct_some hok, hL]; rfl)) rfl (okI_in hi) hdg kk
theorem x_ist (X : FX p m c meth s args own cc nL ret) (K : XK D d A s) (O : XH D A H0 h (xct L ok h d σ) H locs) {t a b n q : Nat} {i x : Int32} (hok : ok t a b = true) (hL : L t a b = .inl (0, n, q)) (hi : okI i n = true) {j : Nat} (hj : i.toNatClampNeg = j) (hdg : decode cc pc = .ok (.iastore, 1))
    (kk : ∀ (H1 : Heap) (locs1 : List Loc), XH D A H0 h (xct L ok h d (sI σ t a b j x)) H1 locs1 → W p l e R s m args below meth c H1 locs1 cells slots Q (F0 m (pc + 1) ls rest)) : W p l e R s m args below meth c H locs cells slots Q (F0 m pc ls (.int x :: .int i :: .ref (h t a b) :: rest)) := by
  subst hj
  obtain ⟨ws, ix, hP, hD, hS, r⟩ := O
  have he : xct L ok h d σ t a b = some (.inl (d 0, n, .inl (gI σ t a b))) := by rw [xct_some hok, hL]; rfl
  exact va_iast X.1.1 X.1.2.1 K.1 hP hD hS (ix t a b) 0 (r.1 t a b _ he) rfl (okI_in hi) hdg (fun H1 locs1 h1 h2 h3 => kk H1 locs1 ⟨_, _, h1, h2, h3, by rw [← xw_ia _ x hok hL]; exact r.set he _⟩)
theorem x_bst (X : FX p m c meth s args own cc nL ret) (K : XK D d A s) (O : XH D A H0 h (xct L ok h d σ) H locs) {t a b n q : Nat} {i x : Int32} (hok : ok t a b = true) (hL : L t a b = .inl (2, n, q)) (hi : okI i n = true) {j : Nat} (hj : i.toNatClampNeg = j) (hdg : decode cc pc = .ok (.bastore, 1))
    (kk : ∀ (H1 : Heap) (locs1 : List Loc), XH D A H0 h (xct L ok h d (sI σ t a b j (vp_nar .byte x))) H1 locs1 → W p l e R s m args below meth c H1 locs1 cells slots Q (F0 m (pc + 1) ls rest)) : W p l e R s m args below meth c H locs cells slots Q (F0 m pc ls (.int x :: .int i :: .ref (h t a b) :: rest)) := by
  subst hj
  obtain ⟨ws, ix, hP, hD, hS, r⟩ := O
  have he : xct L ok h d σ t a b = some (.inl (d 2, n, .inl (gI σ t a b))) := by rw [xct_some hok, hL]; rfl
  exact va_bast X.1.1 X.1.2.1 K.1 hP hD hS (ix t a b) 2 (r.1 t a b _ he) rfl (okI_in hi) hdg (fun H1 locs1 h1 h2 h3 => kk H1 locs1 ⟨_, _, h1, h2, h3, by rw [← xw_ba _ _ hok hL]; exact r.set he _⟩)
theorem x_lst (X : FX p m c meth s args own cc nL ret) (K : XK D d A s) (O : XH D A H0 h (xct L ok h d σ) H locs) {t a b n q : Nat} {i : Int32} {x : Int64} (hok : ok t a b = true) (hL : L t a b = .inl (1, n, q)) (hi : okI i n = true) {j : Nat} (hj : i.toNatClampNeg = j) (hdg : decode cc pc = .ok (.lastore, 1))
    (kk : ∀ (H1 : Heap) (locs1 : List Loc), XH D A H0 h (xct L ok h d (sL σ t a b j x)) H1 locs1 → W p l e R s m args below meth c H1 locs1 cells slots Q (F0 m (pc + 1) ls rest)) : W p l e R s m args below meth c H locs cells slots Q (F0 m pc ls (.long x :: .int i :: .ref (h t a b) :: rest)) := by
  subst hj
  obtain ⟨ws, ix, hP, hD, hS, r⟩ := O
  have he : xct L ok h d σ t a b = some (.inl (d 1, n, .inr (.inl (gL σ t a b)))) := by rw [xct_some hok, hL]; rfl
  exact va_last X.1.1 X.1.2.1 K.1 hP hD hS (ix t a b) 1 (r.1 t a b _ he) rfl (okI_in hi) hdg (fun H1 locs1 h1 h2 h3 => kk H1 locs1 ⟨_, _, h1, h2, h3, by rw [← xw_la _ x hok hL]; exact r.set he _⟩)
theorem x_len (X : FX p m c meth s args own cc nL ret) (K : XK D d A s) (O : XH D A H0 h (xct L ok h d σ) H locs) {t a b n q : Nat} (kd : Nat) {v : Int32} {ty : FieldType} (hok : ok t a b = true) (hL : L t a b = .inl (kd, n, q)) (ht : (tysOf d)[kd]? = some (d kd, ty)) (hv : Int32.ofNat n = v) (hdg : decode cc pc = .ok (.arraylength, 1))
    (kk : W p l e R s m args below meth c H locs cells slots Q (F0 m (pc + 1) ls (.int v :: rest))) : W p l e R s m args below meth c H locs cells slots Q (F0 m pc ls (.ref (h t a b) :: rest)) := by
  obtain ⟨ws, ix, hP, hD, hS, r⟩ := O
  exact va_alen X.1.1 X.1.2.1 K.1 hP (ix t a b) kd (r.1 t a b (.inl (xarr h d σ t a b (kd, n, q))) (by rw [xct_some hok, hL]; rfl)) ht hv hdg kk
theorem x_ald (X : FX p m c meth s args own cc nL ret) (K : XK D d A s) (O : XH D A H0 h (xct L ok h d σ) H locs) {t a b n q : Nat} (kd : Nat) {i : Int32} {ty : FieldType} (hok : ok t a b = true) (hL : L t a b = .inl (kd, n, q)) (hkd : kd = 3 ∨ kd = 4 ∨ kd = 5) (ht : (tysOf d)[kd]? = some (d kd, ty)) (hr : ty.isReference = true) (hi : okI i n = true) {j : Nat} (hj : i.toNatClampNeg = j) (hdg : decode cc pc = .ok (.aaload, 1))
    (kk : W p l e R s m args below meth c H locs cells slots Q (F0 m (pc + 1) ls (.ref (h q a j) :: rest))) : W p l e R s m args below meth c H locs cells slots Q (F0 m pc ls (.int i :: .ref (h t a b) :: rest)) := by
  subst hj
  obtain ⟨ws, ix, hP, hD, hS, r⟩ := O
  have he : xct L ok h d σ t a b = some (.inl (d kd, n, .inr (.inr (.inr (.inr (fun j => some (h q a j))))))) := by
    rw [xct_some hok, hL]
    rcases hkd with rfl | rfl | rfl <;> rfl
  have hat : H[h t a b]? = some (arrV (d kd) n (fun j => va_rf (some (h q a j)))) := hP _ _ (r.1 t a b _ he)
  have hlt : i.toNatClampNeg < n := okI_lt hi
  exact W.aald (v := .ref (h q a i.toNatClampNeg)) X.1.1 X.1.2.1 hat ((K.1.2 _ _ ht).1 n _) hr (fun q => by cases q) (by rw [arrV_size]; exact okI_in hi) (by rw [arrV_read _ _ hlt]; rfl) rfl rfl hdg kk
theorem x_aldQ (X : FX p m c meth s args own cc nL ret) (K : XK D d A s) (O : XH D A H0 h (xct L ok h d σ) H locs) {t a b n q : Nat} {i : Int32} (hok : ok t a b = true) (hL : L t a b = .inl (6, n, q)) (hi : okI i n = true) {j : Nat} (hj : i.toNatClampNeg = j) (hne : ¬ gR σ t a b j = 0) (hdg : decode cc pc = .ok (.aaload, 1))
    (kk : W p l e R s m args below meth c H locs cells slots Q (F0 m (pc + 1) ls (.ref (h 20 (gR σ t a b j - 1) 0) :: rest))) : W p l e R s m args below meth c H locs cells slots Q (F0 m pc ls (.int i :: .ref (h t a b) :: rest)) := by
  subst hj
  obtain ⟨ws, ix, hP, hD, hS, r⟩ := O
  have he : xct L ok h d σ t a b = some (.inl (d 6, n, .inr (.inr (.inr (.inr (fun j => if gR σ t a b j = 0 then none else some (h 20 (gR σ t a b j - 1) 0))))))) := by rw [xct_some hok, hL]; rfl
  have hat : H[h t a b]? = some (arrV (d 6) n (fun j => va_rf (if gR σ t a b j = 0 then none else some (h 20 (gR σ t a b j - 1) 0)))) := hP _ _ (r.1 t a b _ he)
  have hlt : i.toNatClampNeg < n := okI_lt hi
  exact W.aald (v := .ref (h 20 (gR σ t a b i.toNatClampNeg - 1) 0)) (ty := .object "java/lang/Object") X.1.1 X.1.2.1 hat ((K.1.2 6 _ rfl).1 n _) rfl (fun q => by cases q) (by rw [arrV_size]; exact okI_in hi) (by rw [arrV_read _ _ hlt, if_neg hne]; rfl) rfl rfl hdg kk
theorem x_gQ (X : FX p m c meth s args own cc nL ret) (K : XK D d A s) (O : XH D A H0 h (xct L ok h d σ) H locs) {t a b ci : Nat} (k : Nat) {sp : List (Nat × Nat × Nat × Nat)} {t1 : Nat} {q : Nat × Nat} {C : String} {T : u_T} {N idx : Nat} (hne : ¬ gR σ t a b k = 0) (hok : ok t a b = true) (hL : L t a b = .inr (ci, sp)) (hs : sp[k]? = some (4, t1, q)) (hc : vwCl[ci]? = some (C, T, N)) (hin : ∀ w ∈ u_ws C T N, w ∈ lw_all) (hk : k < N) (hlink : Cond.fieldLink own idx (T k).1 (T k).2.1 (T k).2.2.1 ∈ lw_all) (hdg : decode cc pc = .ok (.getfield idx, 3))
    (kk : W p l e R s m args below meth c H locs cells slots Q (F0 m (pc + 3) ls (.ref (h t1 (gR σ t a b k - 1) 0) :: rest))) : W p l e R s m args below meth c H locs cells slots Q (F0 m pc ls (.ref (h t a b) :: rest)) := by
  have e := xfs_get h σ t a b sp 0 k _ hs
  rw [Nat.zero_add] at e
  have e2 : xfv h σ t a b k (4, t1, q) = .ref (h t1 (gR σ t a b k - 1) 0) := by
    show va_rf (if gR σ t a b k = 0 then none else some (h t1 (gR σ t a b k - 1) 0)) = _
    rw [if_neg hne]; rfl
  rw [e2] at e
  exact x_get X K O (ci := ci) k (by rw [xct_some hok, hL]; rfl) hc hin hk hlink e hdg kk
theorem x_gQN (X : FX p m c meth s args own cc nL ret) (K : XK D d A s) (O : XH D A H0 h (xct L ok h d σ) H locs) {t a b ci : Nat} (k : Nat) {sp : List (Nat × Nat × Nat × Nat)} {t1 : Nat} {q : Nat × Nat} {C : String} {host : String} {T : u_T} {N idx : Nat} (hne : ¬ gR σ t a b k = 0) (hok : ok t a b = true) (hL : L t a b = .inr (ci, sp)) (hs : sp[k]? = some (4, t1, q)) (hc : vwCl[ci]? = some (C, T, N)) (hin : ∀ w ∈ u_ws C T N, w ∈ lw_all) (hk : k < N) (hlink : Cond.fieldLinkNest own idx (T k).1 (T k).2.1 (T k).2.2.1 host ∈ lw_tbl) (hdg : decode cc pc = .ok (.getfield idx, 3))
    (kk : W p l e R s m args below meth c H locs cells slots Q (F0 m (pc + 3) ls (.ref (h t1 (gR σ t a b k - 1) 0) :: rest))) : W p l e R s m args below meth c H locs cells slots Q (F0 m pc ls (.ref (h t a b) :: rest)) := by
  have e := xfs_get h σ t a b sp 0 k _ hs
  rw [Nat.zero_add] at e
  have e2 : xfv h σ t a b k (4, t1, q) = .ref (h t1 (gR σ t a b k - 1) 0) := by
    show va_rf (if gR σ t a b k = 0 then none else some (h t1 (gR σ t a b k - 1) 0)) = _
    rw [if_neg hne]; rfl
  rw [e2] at e
  exact x_getN X K O (ci := ci) k (by rw [xct_some hok, hL]; rfl) hc hin hk hlink e hdg kk
theorem xct_obj {L : LY} {ok : Nat → Nat → Nat → Bool} {h : IX} {d : Nat → ClassId} {σ : ST} {t a b ci : Nat} {sp : List (Nat × Nat × Nat × Nat)} (hok : ok t a b = true) (hL : L t a b = .inr (ci, sp)) : xct L ok h d σ t a b = some (.inr (ci, xfs h σ t a b 0 sp)) := by rw [xct_some hok, hL]; rfl
theorem x_cast (X : FX p m c meth s args own cc nL ret) (K : XK D d A s) {ct : CT} (O : XH D A H0 h ct H locs) {t a b ci : Nat} {fs : List Value} {C : String} {T : u_T} {N idx : Nat} (he : ct t a b = some (.inr (ci, fs))) (hc : vwCl[ci]? = some (C, T, N)) (hl : Cond.classLink own idx C ∈ lw_all) (hdg : decode cc pc = .ok (.checkcast idx, 3))
    (kk : W p l e R s m args below meth c H locs cells slots Q (F0 m (pc + 3) ls (.ref (h t a b) :: rest))) : W p l e R s m args below meth c H locs cells slots Q (F0 m pc ls (.ref (h t a b) :: rest)) := by
  obtain ⟨ws, ix, hP, hD, hS, r⟩ := O
  exact va_castE X.1.1 X.1.2.1 X.1.2.2.2.1 (X.1.2.2.2.2 _ hl) (va_recv K.1 hP hc (r.1 t a b _ he)) hdg kk
end XR
def ushr (x y : Int32) : Int32 := (x.toUInt32 >>> (y.toUInt32 &&& Int32.toUInt32 31)).toInt32
def imax (x y : Int32) : Int32 := if x < y then y else x
def imin (x y : Int32) : Int32 := if y < x then y else x
def okZ (v : Int32) : Bool := decide (v = 0 ∨ v = 1)
theorem okZ_n {v : Int32} (h : okZ v = true) : narrow .boolean (.int v) = .int v := by
  rcases (of_decide_eq_true h : v = 0 ∨ v = 1) with rfl | rfl <;> decide
theorem okZ_f {v : Int32} (h : okZ v = true) : fits .boolean (.int v) = true := by
  rcases (of_decide_eq_true h : v = 0 ∨ v = 1) with rfl | rfl <;> decide
def FUEL : Nat := 6000
