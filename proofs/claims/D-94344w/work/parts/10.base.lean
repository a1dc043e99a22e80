/-! BASE: the plain state of a program, a world laid by tags over the kit's lists, rows for it -/
abbrev ST : Type := (Nat → Nat → Nat → Nat → Int32) × (Nat → Nat → Nat → Nat → Int64) × (Nat → Nat → Nat → Nat → Nat)
def gI (σ : ST) (t a b k : Nat) : Int32 := σ.1 t a b k
def gL (σ : ST) (t a b k : Nat) : Int64 := σ.2.1 t a b k
def gR (σ : ST) (t a b k : Nat) : Nat := σ.2.2 t a b k
def up4 {α : Type} (f : Nat → Nat → Nat → Nat → α) (t a b k : Nat) (x : α) : Nat → Nat → Nat → Nat → α := fun t' a' b' k' => if t' = t ∧ a' = a ∧ b' = b ∧ k' = k then x else f t' a' b' k'
def sI (σ : ST) (t a b k : Nat) (x : Int32) : ST := (up4 σ.1 t a b k x, σ.2)
def sL (σ : ST) (t a b k : Nat) (x : Int64) : ST := (σ.1, up4 σ.2.1 t a b k x, σ.2.2)
def sR (σ : ST) (t a b k : Nat) (x : Nat) : ST := (σ.1, σ.2.1, up4 σ.2.2 t a b k x)
/-- an index within an array -/
def okI (i : Int32) (n : Nat) : Bool := decide (¬ (i < 0 ∨ n ≤ i.toNatClampNeg))
theorem okI_in {i : Int32} {n : Nat} (h : okI i n = true) : vp_in i n := (of_decide_eq_true h : ¬ (i < 0 ∨ n ≤ i.toNatClampNeg))
theorem okI_lt {i : Int32} {n : Nat} (h : okI i n = true) : i.toNatClampNeg < n := by
  have := of_decide_eq_true h
  omega
/-- plain binds -/
def ck {β : Type} (c : Bool) (k : Option β) : Option β := match c with
  | true => k
  | false => none
def bn2 {α β γ : Type} (o : Option (α × β)) (f : α → β → Option γ) : Option γ := match o with
  | none => none
  | some q => f q.1 q.2
def bn1 {α γ : Type} (o : Option α) (f : α → Option γ) : Option γ := match o with
  | none => none
  | some q => f q
def lt1 {α β : Type} (x : α) (f : α → β) : β := f x
theorem ck_s {β : Type} {c : Bool} {k : Option β} {z : β} (h : ck c k = some z) : c = true ∧ k = some z := by
  cases c with
  | true => exact ⟨rfl, h⟩
  | false => cases h
theorem bn2_s {α β γ : Type} {o : Option (α × β)} {f : α → β → Option γ} {z : γ} (h : bn2 o f = some z) : ∃ a b, o = some (a, b) ∧ f a b = some z := by
  cases o with
  | none => cases h
  | some q => exact ⟨q.1, q.2, rfl, h⟩
theorem bn1_s {α γ : Type} {o : Option α} {f : α → Option γ} {z : γ} (h : bn1 o f = some z) : ∃ a, o = some a ∧ f a = some z := by
  cases o with
  | none => cases h
  | some q => exact ⟨q, rfl, h⟩
theorem lt1_s {α β : Type} {x : α} {f : α → Option β} {z : β} (h : lt1 x f = some z) : ∃ y, y = x ∧ f y = some z := ⟨x, rfl, h⟩
theorem if_t {α : Type} {c : Prop} [Decidable c] {a b z : α} (hc : c) (h : (if c then a else b) = z) : a = z := by rw [if_pos hc] at h; exact h
theorem if_f {α : Type} {c : Prop} [Decidable c] {a b z : α} (hc : ¬ c) (h : (if c then a else b) = z) : b = z := by rw [if_neg hc] at h; exact h
/-! the world: cells by tags -/
abbrev IX : Type := Nat → Nat → Nat → Nat
abbrev CT : Type := Nat → Nat → Nat → Option va_E
def xRel (h ix : IX) (ct : CT) (ws : va_W) : Prop :=
  (∀ t a b e, ct t a b = some e → ws[ix t a b]? = some (h t a b, e)) ∧ ∀ t a b t' a' b', (ct t a b).isSome = true → (ct t' a' b').isSome = true → ix t a b = ix t' a' b' → t = t' ∧ a = a' ∧ b = b'
def up3 (ct : CT) (t a b : Nat) (e : va_E) : CT := fun t' a' b' => if t' = t ∧ a' = a ∧ b' = b then some e else ct t' a' b'
theorem xRel.set {h ix : IX} {ct : CT} {ws : va_W} (r : xRel h ix ct ws) {t a b : Nat} {e0 : va_E} (he : ct t a b = some e0) (e : va_E) : xRel h ix (up3 ct t a b e) (ws.set (ix t a b) (h t a b, e)) := by
  have hl : ix t a b < ws.length := (List.getElem?_eq_some_iff.mp (r.1 t a b e0 he)).1
  have hs : ∀ t' a' b', (up3 ct t a b e t' a' b').isSome = true → (ct t' a' b').isSome = true := by
    intro t' a' b' q
    unfold up3 at q
    split at q
    · rename_i hq
      obtain ⟨rfl, rfl, rfl⟩ := hq
      rw [he]; rfl
    · exact q
  refine ⟨fun t' a' b' e' he' => ?_, fun t1 a1 b1 t2 a2 b2 h1 h2 => r.2 _ _ _ _ _ _ (hs _ _ _ h1) (hs _ _ _ h2)⟩
  unfold up3 at he'
  split at he'
  · rename_i hq
    obtain ⟨rfl, rfl, rfl⟩ := hq
    cases he'
    rw [List.getElem?_set_self hl]
  · rename_i hq
    have hne : ix t a b ≠ ix t' a' b' := fun q => hq (r.2 t' a' b' t a b (by rw [he']; rfl) (by rw [he]; rfl) q.symm)
    rw [List.getElem?_set_ne hne]
    exact r.1 _ _ _ _ he'
/-- layouts: an array (kind: 0 int, 1 long, 2 byte, more: references to (tag, a, j)), an object (its class's number, a word a field) -/
abbrev LY : Type := Nat → Nat → Nat → (Nat × Nat × Nat) ⊕ (Nat × List (Nat × Nat × Nat × Nat))
def xfv (h : IX) (σ : ST) (t a b k : Nat) (q : Nat × Nat × Nat × Nat) : Value := match q.1 with
  | 0 => .int (gI σ t a b k)
  | 1 => .long (gL σ t a b k)
  | 2 => .ref (h q.2.1 q.2.2.1 q.2.2.2)
  | 3 => .ref (h q.2.1 (gR σ t a b k) 0)
  | _ => va_rf (if gR σ t a b k = 0 then none else some (h q.2.1 (gR σ t a b k - 1) 0))
def xfs (h : IX) (σ : ST) (t a b : Nat) : Nat → List (Nat × Nat × Nat × Nat) → List Value
  | _, [] => []
  | k, q :: l => xfv h σ t a b k q :: xfs h σ t a b (k + 1) l
def xarr (h : IX) (d : Nat → ClassId) (σ : ST) (t a b : Nat) (q : Nat × Nat × Nat) : ClassId × vp_A := (d q.1, q.2.1, match q.1 with
  | 0 => .inl (gI σ t a b)
  | 1 => .inr (.inl (gL σ t a b))
  | 2 => .inl (gI σ t a b)
  | 6 => .inr (.inr (.inr (.inr (fun j => if gR σ t a b j = 0 then none else some (h 20 (gR σ t a b j - 1) 0)))))
  | _ => .inr (.inr (.inr (.inr (fun j => some (h q.2.2 a j))))))
def xfill (h : IX) (d : Nat → ClassId) (σ : ST) (t a b : Nat) (q : (Nat × Nat × Nat) ⊕ (Nat × List (Nat × Nat × Nat × Nat))) : va_E := match q with
  | .inl x => .inl (xarr h d σ t a b x)
  | .inr o => .inr (o.1, xfs h σ t a b 0 o.2)
def xct (L : LY) (ok : Nat → Nat → Nat → Bool) (h : IX) (d : Nat → ClassId) (σ : ST) : CT := fun t a b => if ok t a b = true then some (xfill h d σ t a b (L t a b)) else none
theorem xfs_get (h : IX) (σ : ST) (t a b : Nat) : ∀ (l : List (Nat × Nat × Nat × Nat)) (k0 k : Nat) (q : Nat × Nat × Nat × Nat), l[k]? = some q → (xfs h σ t a b k0 l)[k]? = some (xfv h σ t a b (k0 + k) q)
  | [], _, _, _, hq => by simp at hq
  | q0 :: l, k0, k, q, hq => by
    cases k with
    | zero =>
      rw [List.getElem?_cons_zero] at hq
      cases hq
      rfl
    | succ k =>
      rw [List.getElem?_cons_succ] at hq
      show (xfs h σ t a b (k0 + 1) l)[k]? = _
      rw [xfs_get h σ t a b l (k0 + 1) k q hq]
      have e : k0 + 1 + k = k0 + (k + 1) := by omega
      rw [e]
theorem xfs_len (h : IX) (σ : ST) (t a b : Nat) : ∀ (l : List (Nat × Nat × Nat × Nat)) (k0 : Nat), (xfs h σ t a b k0 l).length = l.length
  | [], _ => rfl
  | q0 :: l, k0 => by
    show (xfs h σ t a b (k0 + 1) l).length + 1 = l.length + 1
    rw [xfs_len h σ t a b l (k0 + 1)]
theorem xfs_ext (h : IX) (σ τ : ST) (t a b : Nat) : ∀ (l : List (Nat × Nat × Nat × Nat)) (k0 : Nat), (∀ k q, l[k]? = some q → xfv h τ t a b (k0 + k) q = xfv h σ t a b (k0 + k) q) → xfs h τ t a b k0 l = xfs h σ t a b k0 l
  | [], _, _ => rfl
  | q0 :: l, k0, hh => by
    show xfv h τ t a b k0 q0 :: xfs h τ t a b (k0 + 1) l = xfv h σ t a b k0 q0 :: xfs h σ t a b (k0 + 1) l
    rw [show xfv h τ t a b k0 q0 = xfv h σ t a b k0 q0 from hh 0 q0 rfl]
    rw [xfs_ext h σ τ t a b l (k0 + 1) (fun k q hq => by
      have e := hh (k + 1) q (by rw [List.getElem?_cons_succ]; exact hq)
      rwa [show k0 + (k + 1) = k0 + 1 + k by omega] at e)]
theorem xfs_set (h : IX) (σ τ : ST) (t a b : Nat) : ∀ (l : List (Nat × Nat × Nat × Nat)) (k0 k : Nat) (q0 : Nat × Nat × Nat × Nat), l[k]? = some q0 → (∀ j q, j ≠ k → l[j]? = some q → xfv h τ t a b (k0 + j) q = xfv h σ t a b (k0 + j) q) → xfs h τ t a b k0 l = (xfs h σ t a b k0 l).set k (xfv h τ t a b (k0 + k) q0)
  | [], _, _, _, hq, _ => by simp at hq
  | q1 :: l, k0, k, q0, hq, hh => by
    cases k with
    | zero =>
      rw [List.getElem?_cons_zero] at hq
      cases hq
      show xfv h τ t a b k0 q1 :: xfs h τ t a b (k0 + 1) l = xfv h τ t a b k0 q1 :: xfs h σ t a b (k0 + 1) l
      rw [xfs_ext h σ τ t a b l (k0 + 1) (fun j q hj => by
        have e := hh (j + 1) q (by omega) (by rw [List.getElem?_cons_succ]; exact hj)
        rwa [show k0 + (j + 1) = k0 + 1 + j by omega] at e)]
    | succ k =>
      rw [List.getElem?_cons_succ] at hq
      show xfv h τ t a b k0 q1 :: xfs h τ t a b (k0 + 1) l = xfv h σ t a b k0 q1 :: (xfs h σ t a b (k0 + 1) l).set k _
      rw [show xfv h τ t a b k0 q1 = xfv h σ t a b k0 q1 from hh 0 q1 (by omega) rfl]
      rw [xfs_set h σ τ t a b l (k0 + 1) k q0 hq (fun j q hj hjq => by
        have e := hh (j + 1) q (by omega) (by rw [List.getElem?_cons_succ]; exact hjq)
        rwa [show k0 + (j + 1) = k0 + 1 + j by omega] at e)]
      rw [show k0 + 1 + k = k0 + (k + 1) by omega]
