/-! making cells: the plain state with the table of made cells and the next address -/
abbrev PS : Type := DT × Nat × ST
def dup (Δ : DT) (t a x : Nat) : DT := fun t' a' => if t' = t ∧ a' = a then some x else Δ t' a'
def clr (σ : ST) (t a : Nat) : ST := (fun t' a' b' k => if t' = t ∧ a' = a then 0 else σ.1 t' a' b' k, fun t' a' b' k => if t' = t ∧ a' = a then 0 else σ.2.1 t' a' b' k, fun t' a' b' k => if t' = t ∧ a' = a then 0 else σ.2.2 t' a' b' k)
def al (u : PS) (t x : Nat) : PS := (dup u.1 t u.2.1 x, u.2.1 + 1, clr u.2.2 t u.2.1)
def pss (u : PS) (σ : ST) : PS := (u.1, u.2.1, σ)
theorem dup_ne {Δ : DT} {t a x t' a' : Nat} (h : ¬ (t' = t ∧ a' = a)) : dup Δ t a x t' a' = Δ t' a' := if_neg h
theorem dup_self {Δ : DT} {t a x : Nat} : dup Δ t a x t a = some x := if_pos ⟨rfl, rfl⟩
theorem LC_dup {Δ : DT} {t a x t' a' b' : Nat} (h : ¬ (t' = t ∧ a' = a)) : LC (dup Δ t a x) t' a' b' = LC Δ t' a' b' := by
  unfold LC LC_21n
  split <;> first | rfl | rw [dup_ne h]
theorem okC_dup {Δ : DT} {t a x t' a' b' : Nat} (h : ¬ (t' = t ∧ a' = a)) : okC (dup Δ t a x) t' a' b' = okC Δ t' a' b' := by
  unfold okC
  split <;> first | rfl | rw [dup_ne h]
theorem okC_hi {Δ : DT} {t a b : Nat} (ht : 20 ≤ t) : okC Δ t a b = ((Δ t a).isSome && decide (b = 0)) := by
  unfold okC
  split <;> first | rfl | omega
theorem okC_al {Δ : DT} {t a x t' a' b' : Nat} (ht : 20 ≤ t) (h : okC Δ t' a' b' = true) : okC (dup Δ t a x) t' a' b' = true := by
  by_cases hq : t' = t ∧ a' = a
  · obtain ⟨rfl, rfl⟩ := hq
    rw [okC_hi ht] at h ⊢
    simp only [Bool.and_eq_true] at h
    rw [dup_self, h.2]; rfl
  · rw [okC_dup hq]; exact h
theorem ok_new {Δ : DT} {t a x : Nat} (ht : 20 ≤ t) : okC (dup Δ t a x) t a 0 = true := by
  rw [okC_hi ht, dup_self]; rfl
theorem gI_clr {σ : ST} {t a t' a' b' : Nat} (h : ¬ (t' = t ∧ a' = a)) : gI (clr σ t a) t' a' b' = gI σ t' a' b' := by
  funext k; exact if_neg h
theorem gL_clr {σ : ST} {t a t' a' b' : Nat} (h : ¬ (t' = t ∧ a' = a)) : gL (clr σ t a) t' a' b' = gL σ t' a' b' := by
  funext k; exact if_neg h
theorem gR_clr {σ : ST} {t a t' a' b' : Nat} (h : ¬ (t' = t ∧ a' = a)) : gR (clr σ t a) t' a' b' = gR σ t' a' b' := by
  funext k; exact if_neg h
theorem gI_clrS {σ : ST} {t a b k : Nat} : gI (clr σ t a) t a b k = 0 := if_pos ⟨rfl, rfl⟩
theorem gL_clrS {σ : ST} {t a b k : Nat} : gL (clr σ t a) t a b k = 0 := if_pos ⟨rfl, rfl⟩
theorem gR_clrS {σ : ST} {t a b k : Nat} : gR (clr σ t a) t a b k = 0 := if_pos ⟨rfl, rfl⟩
theorem xct_al {h : IX} {d : Nat → ClassId} {u : PS} {t x : Nat} (ht : 20 ≤ t) (hn : u.1 t u.2.1 = none) : xct (LC (al u t x).1) (okC (al u t x).1) h d (al u t x).2.2 = up3 (xct (LC u.1) (okC u.1) h d u.2.2) t u.2.1 0 (xfill h d (clr u.2.2 t u.2.1) t u.2.1 0 (LC (dup u.1 t u.2.1 x) t u.2.1 0)) := by
  funext t' a' b'
  unfold up3 xct
  show (if okC (dup u.1 t u.2.1 x) t' a' b' = true then some (xfill h d (clr u.2.2 t u.2.1) t' a' b' (LC (dup u.1 t u.2.1 x) t' a' b')) else none) = _
  by_cases hq : t' = t ∧ a' = u.2.1
  · obtain ⟨rfl, rfl⟩ := hq
    by_cases hb : b' = 0
    · subst hb
      rw [if_pos (ok_new ht), if_pos (show t' = t' ∧ u.2.1 = u.2.1 ∧ 0 = 0 from ⟨rfl, rfl, rfl⟩)]
    · have e1 : okC (dup u.1 t' u.2.1 x) t' u.2.1 b' = false := by rw [okC_hi ht]; simp [hb]
      have e2 : okC u.1 t' u.2.1 b' = false := by rw [okC_hi ht]; simp [hb]
      rw [e1, e2]
      simp [hb]
  · rw [okC_dup hq, LC_dup hq, xfill_ext (gI_clr hq) (gL_clr hq) (gR_clr hq), if_neg (show ¬ (t' = t ∧ a' = u.2.1 ∧ b' = 0) from fun z => hq ⟨z.1, z.2.1⟩)]
def YH (D : va_G) (A : Nat → Prop) (H0 : Heap) (hs : IX) (d : Nat → ClassId) (u : PS) (H : Heap) (locs : List Loc) : Prop := XH D A H0 (hC hs) (xct (LC u.1) (okC u.1) (hC hs) d u.2.2) H locs ∧ H.size = u.2.1
theorem hC_id {hs : IX} {t a b : Nat} (ht : 20 ≤ t) : hC hs t a b = a := if_neg (by omega)
section YR
variable {p : Program} {l : Launch} {e : Env} {R : Room} {s : State} {m : MethodId} {args : Array Value} {below : List Frame} {meth : Method} {c : Code} {H : Heap} {locs : List Loc} {cells slots : Nat} {Q : State → Prop}
variable {cc : ByteArray} {nL : Nat} {ret : Option FieldType} {own : String} {pc : Nat} {ls : Array Slot} {rest : List Value} {D : va_G} {A : Nat → Prop} {hs : IX} {d : Nat → ClassId} {u : PS}
theorem xRel.push {h ix : IX} {ct : CT} {ws : va_W} (r : xRel h ix ct ws) {t a b q : Nat} {e : va_E} (hnew : ct t a b = none) (hq : h t a b = q) : ∃ ix' : IX, xRel h ix' (up3 ct t a b e) (ws ++ [(q, e)]) := by
  refine ⟨fun t' a' b' => if t' = t ∧ a' = a ∧ b' = b then ws.length else ix t' a' b', fun t' a' b' e' he' => ?_, fun t1 a1 b1 t2 a2 b2 h1 h2 hx => ?_⟩
  · unfold up3 at he'
    split at he'
    · rename_i hh
      obtain ⟨rfl, rfl, rfl⟩ := hh
      cases he'
      show (ws ++ [(q, e)])[if t' = t' ∧ a' = a' ∧ b' = b' then ws.length else ix t' a' b']? = _
      rw [if_pos (show t' = t' ∧ a' = a' ∧ b' = b' from ⟨rfl, rfl, rfl⟩), hq]
      simp
    · rename_i hh
      show (ws ++ [(q, e)])[if t' = t ∧ a' = a ∧ b' = b then ws.length else ix t' a' b']? = _
      rw [if_neg hh]
      have h1 := r.1 _ _ _ _ he'
      rw [List.getElem?_append_left (List.getElem?_eq_some_iff.mp h1).1]
      exact h1
  · have key : ∀ t' a' b', (up3 ct t a b e t' a' b').isSome = true → ¬ (t' = t ∧ a' = a ∧ b' = b) → (ct t' a' b').isSome = true ∧ ix t' a' b' < ws.length := by
      intro t' a' b' hs hh
      unfold up3 at hs
      rw [if_neg hh] at hs
      obtain ⟨e', he'⟩ := Option.isSome_iff_exists.mp hs
      exact ⟨hs, (List.getElem?_eq_some_iff.mp (r.1 _ _ _ _ he')).1⟩
    by_cases c1 : t1 = t ∧ a1 = a ∧ b1 = b <;> by_cases c2 : t2 = t ∧ a2 = a ∧ b2 = b
    · obtain ⟨rfl, rfl, rfl⟩ := c1
      obtain ⟨rfl, rfl, rfl⟩ := c2
      exact ⟨rfl, rfl, rfl⟩
    · have := (key _ _ _ h2 c2).2
      simp only [if_pos c1, if_neg c2] at hx
      omega
    · have := (key _ _ _ h1 c1).2
      simp only [if_neg c1, if_pos c2] at hx
      omega
    · simp only [if_neg c1, if_neg c2] at hx
      exact r.2 _ _ _ _ _ _ (key _ _ _ h1 c1).1 (key _ _ _ h2 c2).1 hx
/-- 'new' of a made cell: at the heap's end -/
theorem y_new (X : FX p m c meth s args own cc nL ret) (K : XK D d A s) (O : YH D A s.heap hs d u H locs) (t x : Nat) {ci N idx : Nat} {C : String} {T : u_T} {ty : Nat → FieldType} {sp : List (Nat × Nat × Nat × Nat)} (ht : 20 ≤ t) (hL : LC (dup u.1 t u.2.1 x) t u.2.1 0 = .inr (ci, sp)) (hc : vwCl[ci]? = some (C, T, N)) (hin : ∀ w ∈ u_ws C T N, w ∈ lw_all) (hty : ∀ k, k < N → parseFieldDescriptor (T k).2.2.1 = some (ty k)) (hcl : Cond.classLink own idx C ∈ lw_all) (hinst : Cond.instantiable C N ∈ lw_all) (hini : Cond.initialized C ∈ lw_all) (hdef : ∀ j, j < N → defaultValue (ty j) = vp_V (xfs (hC hs) (clr u.2.2 t u.2.1) t u.2.1 0 0 sp) j) (hcells : cells + 1 ≤ R.cells) (hslots : slots + N ≤ R.slots) (hdg : decode cc pc = .ok (.new idx, 3))
    (kk : ∀ H1 : Heap, YH D A s.heap hs d (al u t x) H1 locs → W p l e R s m args below meth c H1 locs (cells + 1) (slots + N) Q (F0 m (pc + 3) ls (.ref (hC hs t u.2.1 0) :: rest))) : W p l e R s m args below meth c H locs cells slots Q (F0 m pc ls rest) := by
  obtain ⟨⟨ws, ix, hP, hD, hS, r⟩, hz⟩ := O
  have hKn := K.1.1 ci _ hc
  have hfresh : u.1 t u.2.1 = none := by
    cases hh : u.1 t u.2.1 with
    | none => rfl
    | some x0 =>
      have hok : okC u.1 t u.2.1 0 = true := by rw [okC_hi ht, hh]; rfl
      have h1 := (hP _ _ (r.1 t u.2.1 0 _ (xct_some hok))).lt
      have h2 : hC hs t u.2.1 0 < H.size := h1
      rw [hC_id ht] at h2
      omega
  have hnone : xct (LC u.1) (okC u.1) (hC hs) d u.2.2 t u.2.1 0 = none := by
    unfold xct
    rw [okC_hi ht, hfresh]; rfl
  refine W.newcK X.1.1 X.1.2.1 X.1.2.2.2.1 (X.1.2.2.2.2 _ hcl) (X.1.2.2.2.2 _ hinst) (X.1.2.2.2.2 _ hini) rfl hdg hcells hslots hKn.2.1 rfl fun H1 kC hkC e1 z1 o1 => ?_
  have hk : ∀ (k : Nat) (x : Nat × va_E), ws[k]? = some x → H1[x.1]? = H[x.1]? := fun k x hx => o1 x.1 ((hP k x hx).lt)
  have hq : hC hs t u.2.1 0 = H.size := by rw [hC_id ht, hz]
  obtain ⟨ix', r'⟩ := r.push (e := .inr (ci, xfs (hC hs) (clr u.2.2 t u.2.1) t u.2.1 0 0 sp)) hnone hq
  have hY : YH D A s.heap hs d (al u t x) H1 locs := by
    refine ⟨⟨ws ++ [(H.size, .inr (ci, xfs (hC hs) (clr u.2.2 t u.2.1) t u.2.1 0 0 sp))], ix', (hP.kept hk).app (fun k x hx => ?_), hD.push hP rfl (K.2.2 _ hS.1), ⟨Nat.le_trans hS.1 (by omega), fun x h1 h2 => (o1 x (Nat.lt_of_lt_of_le h1 hS.1)).trans (hS.2.1 x h1 h2), hS.2.2⟩, ?_⟩, by show H1.size = u.2.1 + 1; omega⟩
    · have hz9 : k < 1 := (List.getElem?_eq_some_iff.mp hx).1
      rw [show k = 0 by omega] at hx
      cases hx
      exact ⟨_, hc, (u_born ty X.1.2.2.2.2 hin hKn hkC e1 hty).to hdef⟩
    · rw [xct_al ht hfresh, hL]
      exact r'
  have h9 := kk H1 hY
  rw [hq] at h9
  exact h9
end YR
