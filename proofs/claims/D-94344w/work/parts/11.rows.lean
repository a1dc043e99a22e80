/-! ROWS over a world laid by tags -/
theorem gI_sI (σ : ST) (t a b k : Nat) (x : Int32) (t' a' b' k' : Nat) : gI (sI σ t a b k x) t' a' b' k' = if t' = t ∧ a' = a ∧ b' = b ∧ k' = k then x else gI σ t' a' b' k' := rfl
theorem gL_sL (σ : ST) (t a b k : Nat) (x : Int64) (t' a' b' k' : Nat) : gL (sL σ t a b k x) t' a' b' k' = if t' = t ∧ a' = a ∧ b' = b ∧ k' = k then x else gL σ t' a' b' k' := rfl
theorem gR_sR (σ : ST) (t a b k : Nat) (x : Nat) (t' a' b' k' : Nat) : gR (sR σ t a b k x) t' a' b' k' = if t' = t ∧ a' = a ∧ b' = b ∧ k' = k then x else gR σ t' a' b' k' := rfl
theorem gI_sL (σ : ST) (t a b k : Nat) (x : Int64) : gI (sL σ t a b k x) = gI σ := rfl
theorem gI_sR (σ : ST) (t a b k : Nat) (x : Nat) : gI (sR σ t a b k x) = gI σ := rfl
theorem gL_sI (σ : ST) (t a b k : Nat) (x : Int32) : gL (sI σ t a b k x) = gL σ := rfl
theorem gL_sR (σ : ST) (t a b k : Nat) (x : Nat) : gL (sR σ t a b k x) = gL σ := rfl
theorem gR_sI (σ : ST) (t a b k : Nat) (x : Int32) : gR (sI σ t a b k x) = gR σ := rfl
theorem gR_sL (σ : ST) (t a b k : Nat) (x : Int64) : gR (sL σ t a b k x) = gR σ := rfl
theorem xct_some {L : LY} {ok : Nat → Nat → Nat → Bool} {h : IX} {d : Nat → ClassId} {σ : ST} {t a b : Nat} (hok : ok t a b = true) : xct L ok h d σ t a b = some (xfill h d σ t a b (L t a b)) := if_pos hok
theorem xct_of {L : LY} {ok : Nat → Nat → Nat → Bool} {h : IX} {d : Nat → ClassId} {σ τ : ST} {t a b : Nat} {e : va_E} (hok : ok t a b = true) (he : xfill h d τ t a b (L t a b) = e) (hne : ∀ t' a' b', ¬ (t' = t ∧ a' = a ∧ b' = b) → xfill h d τ t' a' b' (L t' a' b') = xfill h d σ t' a' b' (L t' a' b')) : up3 (xct L ok h d σ) t a b e = xct L ok h d τ := by
  funext t' a' b'
  unfold up3 xct
  by_cases hq : t' = t ∧ a' = a ∧ b' = b
  · obtain ⟨rfl, rfl, rfl⟩ := hq
    rw [if_pos ⟨rfl, rfl, rfl⟩, if_pos hok, he]
  · rw [if_neg hq, hne _ _ _ hq]
theorem xfill_ext {h : IX} {d : Nat → ClassId} {σ τ : ST} {t a b : Nat} (h1 : gI τ t a b = gI σ t a b) (h2 : gL τ t a b = gL σ t a b) (h3 : gR τ t a b = gR σ t a b) (q : (Nat × Nat × Nat) ⊕ (Nat × List (Nat × Nat × Nat × Nat))) : xfill h d τ t a b q = xfill h d σ t a b q := by
  cases q with
  | inl x =>
    unfold xfill xarr
    rw [h1, h2, h3]
  | inr o =>
    unfold xfill
    have e := xfs_ext h σ τ t a b o.2 0 (fun k q _ => by unfold xfv; rw [h1, h2, h3])
    exact congrArg (fun z => Sum.inr (o.1, z)) e
theorem gI_sI_ne {σ : ST} {t a b k : Nat} {x : Int32} {t' a' b' : Nat} (hq : ¬ (t' = t ∧ a' = a ∧ b' = b)) : gI (sI σ t a b k x) t' a' b' = gI σ t' a' b' := by
  funext k'
  rw [gI_sI, if_neg (fun z => hq ⟨z.1, z.2.1, z.2.2.1⟩)]
theorem gL_sL_ne {σ : ST} {t a b k : Nat} {x : Int64} {t' a' b' : Nat} (hq : ¬ (t' = t ∧ a' = a ∧ b' = b)) : gL (sL σ t a b k x) t' a' b' = gL σ t' a' b' := by
  funext k'
  rw [gL_sL, if_neg (fun z => hq ⟨z.1, z.2.1, z.2.2.1⟩)]
theorem gR_sR_ne {σ : ST} {t a b k : Nat} {x : Nat} {t' a' b' : Nat} (hq : ¬ (t' = t ∧ a' = a ∧ b' = b)) : gR (sR σ t a b k x) t' a' b' = gR σ t' a' b' := by
  funext k'
  rw [gR_sR, if_neg (fun z => hq ⟨z.1, z.2.1, z.2.2.1⟩)]
theorem xw_putI {L : LY} {ok : Nat → Nat → Nat → Bool} {h : IX} {d : Nat → ClassId} {σ : ST} {t a b k ci : Nat} {sp : List (Nat × Nat × Nat × Nat)} {q : Nat × Nat × Nat} (x : Int32) (hok : ok t a b = true) (hL : L t a b = .inr (ci, sp)) (hs : sp[k]? = some (0, q)) : up3 (xct L ok h d σ) t a b (.inr (ci, (xfs h σ t a b 0 sp).set k (.int x))) = xct L ok h d (sI σ t a b k x) := by
  refine xct_of hok ?_ (fun t' a' b' hq => xfill_ext (gI_sI_ne hq) rfl rfl _)
  rw [hL]
  show Sum.inr (ci, xfs h (sI σ t a b k x) t a b 0 sp) = _
  rw [xfs_set h σ (sI σ t a b k x) t a b sp 0 k (0, q) hs (fun j q' hj _ => by
    unfold xfv
    rw [gL_sI, gR_sI, gI_sI, if_neg (fun z => hj (by omega))])]
  show Sum.inr (ci, (xfs h σ t a b 0 sp).set k (.int (gI (sI σ t a b k x) t a b (0 + k)))) = _
  rw [gI_sI, if_pos ⟨rfl, rfl, rfl, Nat.zero_add k⟩]
theorem xw_putL {L : LY} {ok : Nat → Nat → Nat → Bool} {h : IX} {d : Nat → ClassId} {σ : ST} {t a b k ci : Nat} {sp : List (Nat × Nat × Nat × Nat)} {q : Nat × Nat × Nat} (x : Int64) (hok : ok t a b = true) (hL : L t a b = .inr (ci, sp)) (hs : sp[k]? = some (1, q)) : up3 (xct L ok h d σ) t a b (.inr (ci, (xfs h σ t a b 0 sp).set k (.long x))) = xct L ok h d (sL σ t a b k x) := by
  refine xct_of hok ?_ (fun t' a' b' hq => xfill_ext (σ := σ) (τ := sL σ t a b k x) rfl (gL_sL_ne hq) rfl _)
  rw [hL]
  show Sum.inr (ci, xfs h (sL σ t a b k x) t a b 0 sp) = _
  rw [xfs_set h σ (sL σ t a b k x) t a b sp 0 k (1, q) hs (fun j q' hj _ => by
    unfold xfv
    rw [gI_sL, gR_sL, gL_sL, if_neg (fun z => hj (by omega))])]
  show Sum.inr (ci, (xfs h σ t a b 0 sp).set k (.long (gL (sL σ t a b k x) t a b (0 + k)))) = _
  rw [gL_sL, if_pos ⟨rfl, rfl, rfl, Nat.zero_add k⟩]
theorem xw_putR {L : LY} {ok : Nat → Nat → Nat → Bool} {h : IX} {d : Nat → ClassId} {σ : ST} {t a b k ci t1 : Nat} {sp : List (Nat × Nat × Nat × Nat)} {q : Nat × Nat} (x : Nat) (hok : ok t a b = true) (hL : L t a b = .inr (ci, sp)) (hs : sp[k]? = some (3, t1, q)) : up3 (xct L ok h d σ) t a b (.inr (ci, (xfs h σ t a b 0 sp).set k (.ref (h t1 x 0)))) = xct L ok h d (sR σ t a b k x) := by
  refine xct_of hok ?_ (fun t' a' b' hq => xfill_ext (σ := σ) (τ := sR σ t a b k x) rfl rfl (gR_sR_ne hq) _)
  rw [hL]
  show Sum.inr (ci, xfs h (sR σ t a b k x) t a b 0 sp) = _
  rw [xfs_set h σ (sR σ t a b k x) t a b sp 0 k (3, t1, q) hs (fun j q' hj _ => by
    unfold xfv
    rw [gI_sR, gL_sR, gR_sR, if_neg (fun z => hj (by omega))])]
  show Sum.inr (ci, (xfs h σ t a b 0 sp).set k (.ref (h t1 (gR (sR σ t a b k x) t a b (0 + k)) 0))) = _
  rw [gR_sR, if_pos ⟨rfl, rfl, rfl, Nat.zero_add k⟩]
theorem xw_putQ {L : LY} {ok : Nat → Nat → Nat → Bool} {h : IX} {d : Nat → ClassId} {σ : ST} {t a b k ci t1 : Nat} {sp : List (Nat × Nat × Nat × Nat)} {q : Nat × Nat} (x : Nat) (hok : ok t a b = true) (hL : L t a b = .inr (ci, sp)) (hs : sp[k]? = some (4, t1, q)) : up3 (xct L ok h d σ) t a b (.inr (ci, (xfs h σ t a b 0 sp).set k (.ref (h t1 x 0)))) = xct L ok h d (sR σ t a b k (x + 1)) := by
  refine xct_of hok ?_ (fun t' a' b' hq => xfill_ext (σ := σ) (τ := sR σ t a b k (x + 1)) rfl rfl (gR_sR_ne hq) _)
  rw [hL]
  show Sum.inr (ci, xfs h (sR σ t a b k (x + 1)) t a b 0 sp) = _
  rw [xfs_set h σ (sR σ t a b k (x + 1)) t a b sp 0 k (4, t1, q) hs (fun j q' hj _ => by
    unfold xfv
    rw [gI_sR, gL_sR, gR_sR, if_neg (fun z => hj (by omega))])]
  show Sum.inr (ci, (xfs h σ t a b 0 sp).set k (va_rf (if gR (sR σ t a b k (x + 1)) t a b (0 + k) = 0 then none else some (h t1 (gR (sR σ t a b k (x + 1)) t a b (0 + k) - 1) 0)))) = _
  have e : gR (sR σ t a b k (x + 1)) t a b (0 + k) = x + 1 := by rw [gR_sR, if_pos ⟨rfl, rfl, rfl, Nat.zero_add k⟩]
  rw [e, if_neg (Nat.succ_ne_zero x)]
  rfl
theorem xw_ia {L : LY} {ok : Nat → Nat → Nat → Bool} {h : IX} {d : Nat → ClassId} {σ : ST} {t a b n : Nat} {q : Nat} (k : Nat) (x : Int32) (hok : ok t a b = true) (hL : L t a b = .inl (0, n, q)) : up3 (xct L ok h d σ) t a b (.inl (d 0, n, .inl (upd (gI σ t a b) k x))) = xct L ok h d (sI σ t a b k x) := by
  refine xct_of hok ?_ (fun t' a' b' hq => xfill_ext (gI_sI_ne hq) rfl rfl _)
  rw [hL]
  show Sum.inl (d 0, n, Sum.inl (gI (sI σ t a b k x) t a b)) = _
  have e : gI (sI σ t a b k x) t a b = upd (gI σ t a b) k x := by
    funext j
    rw [gI_sI]
    unfold upd
    by_cases hj : j = k
    · rw [if_pos ⟨rfl, rfl, rfl, hj⟩, if_pos hj]
    · rw [if_neg (fun z => hj z.2.2.2), if_neg hj]
  rw [e]
theorem xw_ba {L : LY} {ok : Nat → Nat → Nat → Bool} {h : IX} {d : Nat → ClassId} {σ : ST} {t a b n : Nat} {q : Nat} (k : Nat) (x : Int32) (hok : ok t a b = true) (hL : L t a b = .inl (2, n, q)) : up3 (xct L ok h d σ) t a b (.inl (d 2, n, .inl (upd (gI σ t a b) k x))) = xct L ok h d (sI σ t a b k x) := by
  refine xct_of hok ?_ (fun t' a' b' hq => xfill_ext (gI_sI_ne hq) rfl rfl _)
  rw [hL]
  show Sum.inl (d 2, n, Sum.inl (gI (sI σ t a b k x) t a b)) = _
  have e : gI (sI σ t a b k x) t a b = upd (gI σ t a b) k x := by
    funext j
    rw [gI_sI]
    unfold upd
    by_cases hj : j = k
    · rw [if_pos ⟨rfl, rfl, rfl, hj⟩, if_pos hj]
    · rw [if_neg (fun z => hj z.2.2.2), if_neg hj]
  rw [e]
theorem xw_la {L : LY} {ok : Nat → Nat → Nat → Bool} {h : IX} {d : Nat → ClassId} {σ : ST} {t a b n : Nat} {q : Nat} (k : Nat) (x : Int64) (hok : ok t a b = true) (hL : L t a b = .inl (1, n, q)) : up3 (xct L ok h d σ) t a b (.inl (d 1, n, .inr (.inl (vp_updL (gL σ t a b) k x)))) = xct L ok h d (sL σ t a b k x) := by
  refine xct_of hok ?_ (fun t' a' b' hq => xfill_ext (σ := σ) (τ := sL σ t a b k x) rfl (gL_sL_ne hq) rfl _)
  rw [hL]
  show Sum.inl (d 1, n, Sum.inr (Sum.inl (gL (sL σ t a b k x) t a b))) = _
  have e : gL (sL σ t a b k x) t a b = vp_updL (gL σ t a b) k x := by
    funext j
    rw [gL_sL]
    unfold vp_updL
    by_cases hj : j = k
    · rw [if_pos ⟨rfl, rfl, rfl, hj⟩, if_pos hj]
    · rw [if_neg (fun z => hj z.2.2.2), if_neg hj]
  rw [e]
theorem xw_qa {L : LY} {ok : Nat → Nat → Nat → Bool} {h : IX} {d : Nat → ClassId} {σ : ST} {t a b n : Nat} {q : Nat} (k : Nat) (x : Nat) (hok : ok t a b = true) (hL : L t a b = .inl (6, n, q)) : up3 (xct L ok h d σ) t a b (.inl (d 6, n, .inr (.inr (.inr (.inr (va_up (fun j => if gR σ t a b j = 0 then none else some (h 20 (gR σ t a b j - 1) 0)) k (if x = 0 then none else some (h 20 (x - 1) 0)))))))) = xct L ok h d (sR σ t a b k x) := by
  refine xct_of hok ?_ (fun t' a' b' hq => xfill_ext (σ := σ) (τ := sR σ t a b k x) rfl rfl (gR_sR_ne hq) _)
  rw [hL]
  show Sum.inl (d 6, n, Sum.inr (Sum.inr (Sum.inr (Sum.inr (fun j => if gR (sR σ t a b k x) t a b j = 0 then none else some (h 20 (gR (sR σ t a b k x) t a b j - 1) 0)))))) = _
  have e : (fun j => if gR (sR σ t a b k x) t a b j = 0 then none else some (h 20 (gR (sR σ t a b k x) t a b j - 1) 0)) = va_up (fun j => if gR σ t a b j = 0 then none else some (h 20 (gR σ t a b j - 1) 0)) k (if x = 0 then none else some (h 20 (x - 1) 0)) := by
    funext j
    unfold va_up
    by_cases hj : j = k
    · subst hj
      have e1 : gR (sR σ t a b j x) t a b j = x := by rw [gR_sR, if_pos ⟨rfl, rfl, rfl, rfl⟩]
      rw [if_pos rfl, e1]
    · have e1 : gR (sR σ t a b k x) t a b j = gR σ t a b j := by rw [gR_sR, if_neg (fun z => hj z.2.2.2)]
      rw [if_neg hj, e1]
  rw [e]
/-! what every method holds all through -/
def NW (U : State) : Prop := (∀ a i b n dd hh, Cond.fieldLinkNest a i b n dd hh ∈ lw_tbl → va_Nw (.fieldLinkNest a i b n dd hh) U) ∧ (∀ a i x hh, Cond.methodLinkNest a i x hh ∈ lw_tbl → va_Nw (.methodLinkNest a i x hh) U) ∧ (∀ x, Cond.declares x ∈ lw_tbl → va_Nw (.declares x) U) ∧ (∀ C T, Cond.castable C T ∈ lw_tbl → va_Nw (.castable C T) U) ∧ va_AO "java/lang/Object" U ∧ va_Fw "NotchSticks$Case" ⟨"NotchSticks$Asker", "fact", "(I)I"⟩ ⟨"NotchSticks$Case", "fact", "(I)I"⟩ U
theorem NW.warm {s U : State} (hW : s.WarmedH U.vm) (h : NW s) : NW U := ⟨fun _ _ _ _ _ _ q => (h.1 _ _ _ _ _ _ q).warmF hW, fun _ _ _ _ q => (h.2.1 _ _ _ _ q).warmM hW, fun _ q => (h.2.2.1 _ q).warmD hW, fun _ _ q => (h.2.2.2.1 _ _ q).warmC hW, h.2.2.2.2.1.moved hW.alike, h.2.2.2.2.2.moved ⟨by decide, by decide⟩ hW.alike⟩
theorem NW.calling {U : State} {g : JFrame} {mk : MethodId} {a : Array Value} (h : NW U) : NW (U.calling g mk a) := ⟨fun _ _ _ _ _ _ q => va_Nw.same rfl rfl (h.1 _ _ _ _ _ _ q), fun _ _ _ _ q => va_Nw.same rfl rfl (h.2.1 _ _ _ _ q), fun _ q => va_Nw.same rfl rfl (h.2.2.1 _ q), fun _ _ q => va_Nw.same rfl rfl (h.2.2.2.1 _ _ q), h.2.2.2.2.1.moved (Vm.Alike.refl U.vm), h.2.2.2.2.2.moved ⟨by decide, by decide⟩ (Vm.Alike.refl U.vm)⟩
abbrev vwCl : List vw_C := [(RX0, TX0, 19), (RX1, TX1, 10), (RX2, TX2, 5), (RX3, TX3, 1), (RX4, TX4, 1), (RX5, TX5, 8), (RX6, TX6, 56), (RX7, TX7, 7), (RX10, TX10, 1), (RX11, TX11, 1), (RX12, TX12, 1), (RX13, TX13, 3), (RX14, TX14, 2), (RJ2, TJ2, 3), (RX8, TX8, 8)]
abbrev tysOf (d : Nat → ClassId) : List (ClassId × FieldType) := [(d 0, .int), (d 1, .long), (d 2, .byte), (d 3, .object "NotchSticks$Person"), (d 4, .object "NotchSticks$Entry"), (d 5, .array .long), (d 6, .object "java/lang/Object")]
def FX (p : Program) (m : MethodId) (c : Code) (meth : Method) (s : State) (args : Array Value) (own : String) (cc : ByteArray) (nL : Nat) (ret : Option FieldType) : Prop := CallFix p m c cc nL s args lw_all own ∧ meth.sig.returnType = ret ∧ meth.locks = false
def XK (D : va_G) (d : Nat → ClassId) (A : Nat → Prop) (s : State) : Prop := va_K D vwCl (tysOf d) s ∧ NW s ∧ ∀ q : Nat, s.heap.size ≤ q → A q
def XH (D : va_G) (A : Nat → Prop) (H0 : Heap) (h : IX) (ct : CT) (H : Heap) (locs : List Loc) : Prop := ∃ (ws : va_W) (ix : IX), va_P D vwCl ws H ∧ va_D A ws ∧ va_S A H0 H locs ∧ xRel h ix ct ws
