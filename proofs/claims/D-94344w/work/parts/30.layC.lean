/-! the layout of the system -/
abbrev DT : Type := Nat → Nat → Option Nat
def hC (hs : IX) : IX := fun t a b => if t < 20 then hs t a b else a
def oks (A B a b : Nat) : Bool := decide (a < A) && decide (b < B)
theorem oks_b {A B B' a b b' : Nat} (h : oks A B a b = true) (hb : b' < B') : oks A B' a b' = true := by
  unfold oks at *
  simp only [Bool.and_eq_true, decide_eq_true_eq] at *
  exact ⟨h.1, hb⟩
def lmax (x y : Int64) : Int64 := if y < x then x else y
def LC_21n (Δ : DT) (a : Nat) : Nat := (Δ 21 a).getD 0
def sp0 : List (Nat × Nat × Nat × Nat) := [(2, 7, 0, 0), (0, 0, 0, 0), (3, 20, 0, 0), (3, 20, 0, 0), (0, 0, 0, 0), (0, 0, 0, 0), (2, 1, 0, 0), (2, 1, 1, 0), (2, 1, 2, 0), (3, 12, 0, 0), (3, 12, 0, 0), (3, 12, 0, 0), (3, 12, 0, 0), (1, 0, 0, 0), (1, 0, 0, 0), (1, 0, 0, 0), (2, 3, 0, 0), (2, 16, 0, 0), (2, 16, 1, 0)]
def sp1 (v : Nat) : List (Nat × Nat × Nat × Nat) := [(2, 5, v, 0), (2, 6, v, 0), (2, 4, v, 0), (2, 2, v, 0), (2, 2, v, 1), (0, 0, 0, 0), (0, 0, 0, 0), (0, 0, 0, 0), (0, 0, 0, 0), (2, 0, 0, 0)]
def sp2 : List (Nat × Nat × Nat × Nat) := [(4, 1, 0, 0), (0, 0, 0, 0), (0, 0, 0, 0), (0, 0, 0, 0), (2, 0, 0, 0)]
def sp3 : List (Nat × Nat × Nat × Nat) := [(3, 14, 0, 0), (3, 14, 0, 0), (2, 13, 0, 0), (2, 13, 1, 0), (0, 0, 0, 0), (0, 0, 0, 0), (0, 0, 0, 0), (2, 0, 0, 0)]
def sp20 : List (Nat × Nat × Nat × Nat) := [(0, 0, 0, 0), (3, 21, 0, 0), (0, 0, 0, 0)]
def sp22 : List (Nat × Nat × Nat × Nat) := [(0, 0, 0, 0), (4, 23, 0, 0)]
def sp24 : List (Nat × Nat × Nat × Nat) := [(0, 0, 0, 0), (0, 0, 0, 0), (0, 0, 0, 0), (0, 0, 0, 0), (0, 0, 0, 0), (0, 0, 0, 0), (2, 0, 0, 0)]
def sp23 (x : Nat) : Nat × List (Nat × Nat × Nat × Nat) := match x with
  | 8 => (8, [(4, 23, 0, 0)])
  | 9 => (9, [(0, 0, 0, 0)])
  | 10 => (10, [(0, 0, 0, 0)])
  | _ => (11, [(4, 23, 0, 0), (4, 23, 0, 0), (0, 0, 0, 0)])
def LC (Δ : DT) : LY := fun t a b => match t with
  | 0 => .inr (0, sp0)
  | 1 => .inr (1, sp1 a)
  | 2 => .inr (2, sp2)
  | 3 => .inr (5, sp3)
  | 4 => .inl (0, 23, 0)
  | 5 => .inl (3, 12, 8)
  | 6 => .inl (4, 300, 10)
  | 7 => .inl (2, 400, 0)
  | 8 => .inr (3, [(2, 9, a, b)])
  | 9 => .inl (0, 9, 0)
  | 10 => .inr (4, [(2, 11, a, b)])
  | 11 => .inl (0, 8, 0)
  | 12 => .inl (1, 25, 0)
  | 13 => .inl (1, 2, 0)
  | 14 => .inl (5, 9, 15)
  | 15 => .inl (1, 9, 0)
  | 16 => .inl (5, 14, 17)
  | 17 => .inl (1, 14, 0)
  | 20 => .inr (13, sp20)
  | 21 => .inl (6, LC_21n Δ a, 0)
  | 22 => .inr (12, sp22)
  | 23 => .inr (sp23 ((Δ 23 a).getD 0))
  | 24 => .inr (7, sp24)
  | _ => .inl (0, 0, 0)
def okC (Δ : DT) (t a b : Nat) : Bool := match t with
  | 0 => oks 1 1 a b
  | 1 => oks 3 1 a b
  | 2 => oks 3 2 a b
  | 3 => oks 1 1 a b
  | 4 => oks 3 1 a b
  | 5 => oks 3 1 a b
  | 6 => oks 3 1 a b
  | 7 => oks 1 1 a b
  | 8 => oks 3 12 a b
  | 9 => oks 3 12 a b
  | 10 => oks 3 300 a b
  | 11 => oks 3 300 a b
  | 12 => oks 4 1 a b
  | 13 => oks 2 1 a b
  | 14 => oks 2 1 a b
  | 15 => oks 2 9 a b
  | 16 => oks 2 1 a b
  | 17 => oks 2 14 a b
  | 18 => false
  | 19 => false
  | _ => (Δ t a).isSome && decide (b = 0)
theorem LC_0 {Δ : DT} {a b : Nat} : LC Δ 0 a b = .inr (0, sp0) := rfl
theorem LC_1 {Δ : DT} {a b : Nat} : LC Δ 1 a b = .inr (1, sp1 a) := rfl
theorem LC_2 {Δ : DT} {a b : Nat} : LC Δ 2 a b = .inr (2, sp2) := rfl
theorem LC_3 {Δ : DT} {a b : Nat} : LC Δ 3 a b = .inr (5, sp3) := rfl
theorem LC_4 {Δ : DT} {a b : Nat} : LC Δ 4 a b = .inl (0, 23, 0) := rfl
theorem LC_5 {Δ : DT} {a b : Nat} : LC Δ 5 a b = .inl (3, 12, 8) := rfl
theorem LC_6 {Δ : DT} {a b : Nat} : LC Δ 6 a b = .inl (4, 300, 10) := rfl
theorem LC_7 {Δ : DT} {a b : Nat} : LC Δ 7 a b = .inl (2, 400, 0) := rfl
theorem LC_8 {Δ : DT} {a b : Nat} : LC Δ 8 a b = .inr (3, [(2, 9, a, b)]) := rfl
theorem LC_9 {Δ : DT} {a b : Nat} : LC Δ 9 a b = .inl (0, 9, 0) := rfl
theorem LC_10 {Δ : DT} {a b : Nat} : LC Δ 10 a b = .inr (4, [(2, 11, a, b)]) := rfl
theorem LC_11 {Δ : DT} {a b : Nat} : LC Δ 11 a b = .inl (0, 8, 0) := rfl
theorem LC_12 {Δ : DT} {a b : Nat} : LC Δ 12 a b = .inl (1, 25, 0) := rfl
theorem LC_13 {Δ : DT} {a b : Nat} : LC Δ 13 a b = .inl (1, 2, 0) := rfl
theorem LC_14 {Δ : DT} {a b : Nat} : LC Δ 14 a b = .inl (5, 9, 15) := rfl
theorem LC_15 {Δ : DT} {a b : Nat} : LC Δ 15 a b = .inl (1, 9, 0) := rfl
theorem LC_16 {Δ : DT} {a b : Nat} : LC Δ 16 a b = .inl (5, 14, 17) := rfl
theorem LC_17 {Δ : DT} {a b : Nat} : LC Δ 17 a b = .inl (1, 14, 0) := rfl
theorem LC_20 {Δ : DT} {a b : Nat} : LC Δ 20 a b = .inr (13, sp20) := rfl
theorem LC_21 {Δ : DT} {a b : Nat} : LC Δ 21 a b = .inl (6, LC_21n Δ a, 0) := rfl
theorem LC_22 {Δ : DT} {a b : Nat} : LC Δ 22 a b = .inr (12, sp22) := rfl
theorem LC_24 {Δ : DT} {a b : Nat} : LC Δ 24 a b = .inr (7, sp24) := rfl
