section CW
variable {p : Program} {l : Launch} {e : Env} {s : State} {m : MethodId} {args : Array Value} {below : List Frame} {meth : Method} {c : Code} {D : va_G} {A : Nat → Prop} {hs : IX} {d : Nat → ClassId} {Δ : DT}

def C_X3_notch (Δ : DT) (v : Nat) (w : Nat) (σ : ST) (p1 : Int32) : Option (ST × Int32) :=
  ck (okI (2 + p1) 9) (some (σ, (gI σ 9 v w (Int32.toNatClampNeg (2 + p1)))))
theorem m_C_X3_notch {l : Launch} {D : va_G} {d : Nat → ClassId} {hs : IX} {Δ : DT} {v : Nat} {w : Nat} {p1 : Int32} {σ : ST} {z : ST × Int32} (hk : okC Δ 8 v w = true) (hf : C_X3_notch Δ v w σ p1 = some z) : XM l D d EN yX3_notch cX3_notch 2 (some .int) 0 0 0 [.ref ((hC hs) 8 v w), .int p1] (hC hs) (xct (LC Δ) (okC Δ) (hC hs) d σ) (Qi D (pz z) (cw (hC hs) (LC Δ) (okC Δ) d)) := by
  refine XM.of (by decide +kernel) (Nat.le_of_ble_eq_true rfl) ?_
  intro p e s m below meth c A ls X _ K _ O hl
  have hl : lv_has ls 2 [(0, .ref ((hC hs) 8 v w)), (1, .int p1)] := hl
  have hx := X.1.1; have hb := X.1.2.1
  rw [C_X3_notch] at hf
  refine lv_aload_n hx hb dX3_notch_0 rfl (lv_at hl 0 rfl) ?_
  refine x_gF X K O 0 hk LC_8 rfl rfl in_X3 (by decide) q275 dX3_notch_1 ?_
  refine lv_iconst (v := 2) hx hb dX3_notch_4 (by decide) ?_
  refine lv_iload_n hx hb dX3_notch_5 rfl (lv_at hl 1 rfl) ?_
  refine lv_iadd hx hb dX3_notch_6 ?_
  obtain ⟨c_1, hf⟩ := ck_s hf
  refine x_ild X K O hk LC_9 c_1 (j := (Int32.toNatClampNeg (2 + p1))) rfl dX3_notch_7 ?_
  exact x_iret X O rfl _ (Option.some.inj hf).symm rfl dX3_notch_8
def C_X3_keeps (Δ : DT) (v : Nat) (w : Nat) (σ : ST) (p1 : Int32) : Option (ST) :=
  lt1 (sI σ 9 v w 2 (imin 9999 ((gI σ 9 v w 2) + 1))) (fun σ_1 => lt1 (sI σ_1 9 v w 4 (imin 9999 ((gI σ_1 9 v w 4) + p1))) (fun σ_2 => some σ_2))
theorem m_C_X3_keeps {l : Launch} {D : va_G} {d : Nat → ClassId} {hs : IX} {Δ : DT} {v : Nat} {w : Nat} {p1 : Int32} {σ : ST} {z : ST} (hk : okC Δ 8 v w = true) (hf : C_X3_keeps Δ v w σ p1 = some z) : XM l D d EN yX3_keeps cX3_keeps 2 none 1 0 0 [.ref ((hC hs) 8 v w), .int p1] (hC hs) (xct (LC Δ) (okC Δ) (hC hs) d σ) (Qv D (pu z) (cw (hC hs) (LC Δ) (okC Δ) d)) := by
  refine XM.of (by decide +kernel) (Nat.le_of_ble_eq_true rfl) ?_
  intro p e s m below meth c A ls X _ K _ O hl
  have hl : lv_has ls 2 [(0, .ref ((hC hs) 8 v w)), (1, .int p1)] := hl
  have hx := X.1.1; have hb := X.1.2.1
  rw [C_X3_keeps] at hf
  refine lv_aload_n hx hb dX3_keeps_0 rfl (lv_at hl 0 rfl) ?_
  refine x_gF X K O 0 hk LC_8 rfl rfl in_X3 (by decide) q275 dX3_keeps_1 ?_
  refine lv_iconst (v := 2) hx hb dX3_keeps_4 (by decide) ?_
  refine lv_sipush (v := 9999) hx hb dX3_keeps_5 (by decide) ?_
  refine lv_aload_n hx hb dX3_keeps_8 rfl (lv_at hl 0 rfl) ?_
  refine x_gF X K O 0 hk LC_8 rfl rfl in_X3 (by decide) q275 dX3_keeps_9 ?_
  refine lv_iconst (v := 2) hx hb dX3_keeps_12 (by decide) ?_
  refine x_ild X K O hk LC_9 (by decide) (j := 2) rfl dX3_keeps_13 ?_
  refine lv_iconst (v := 1) hx hb dX3_keeps_14 (by decide) ?_
  refine lv_iadd hx hb dX3_keeps_15 ?_
  refine va_mmin hx hb (X.1.2.2.1.trans hl.1.symm) X.1.2.2.2.1 (X.1.2.2.2.2 _ q907) (X.1.2.2.2.2 _ q230) (X.1.2.2.2.2 _ q116) (X.1.2.2.2.2 _ q231) (by decide) (Nat.le_of_ble_eq_true rfl) (Nat.le_refl _) (Nat.le_refl _) dX3_keeps_16 ?_
  refine x_top (w := .int (imin 9999 ((gI σ 9 v w 2) + 1))) rfl ?_
  obtain ⟨σ_1, eσ_1, hf⟩ := lt1_s hf
  refine x_ist X K O hk LC_9 (by decide) (j := 2) rfl dX3_keeps_19 (fun H locs O => ?_)
  rw [← eσ_1] at O
  refine lv_aload_n hx hb dX3_keeps_20 rfl (lv_at hl 0 rfl) ?_
  refine x_gF X K O 0 hk LC_8 rfl rfl in_X3 (by decide) q275 dX3_keeps_21 ?_
  refine lv_iconst (v := 4) hx hb dX3_keeps_24 (by decide) ?_
  refine lv_sipush (v := 9999) hx hb dX3_keeps_25 (by decide) ?_
  refine lv_aload_n hx hb dX3_keeps_28 rfl (lv_at hl 0 rfl) ?_
  refine x_gF X K O 0 hk LC_8 rfl rfl in_X3 (by decide) q275 dX3_keeps_29 ?_
  refine lv_iconst (v := 4) hx hb dX3_keeps_32 (by decide) ?_
  refine x_ild X K O hk LC_9 (by decide) (j := 4) rfl dX3_keeps_33 ?_
  refine lv_iload_n hx hb dX3_keeps_34 rfl (lv_at hl 1 rfl) ?_
  refine lv_iadd hx hb dX3_keeps_35 ?_
  refine va_mmin hx hb (X.1.2.2.1.trans hl.1.symm) X.1.2.2.2.1 (X.1.2.2.2.2 _ q907) (X.1.2.2.2.2 _ q230) (X.1.2.2.2.2 _ q116) (X.1.2.2.2.2 _ q231) (by decide) (Nat.le_of_ble_eq_true rfl) (Nat.le_refl _) (Nat.le_refl _) dX3_keeps_36 ?_
  refine x_top (w := .int (imin 9999 ((gI σ_1 9 v w 4) + p1))) rfl ?_
  obtain ⟨σ_2, eσ_2, hf⟩ := lt1_s hf
  refine x_ist X K O hk LC_9 (by decide) (j := 4) rfl dX3_keeps_39 (fun H locs O => ?_)
  rw [← eσ_2] at O
  exact x_vret X O rfl _ (Option.some.inj hf).symm rfl dX3_keeps_40
def C_X3_breaks (Δ : DT) (v : Nat) (w : Nat) (σ : ST) (p1 : Int32) : Option (ST) :=
  lt1 (sI σ 9 v w 3 (imin 9999 ((gI σ 9 v w 3) + 1))) (fun σ_1 => lt1 (sI σ_1 9 v w 5 (imin 9999 ((gI σ_1 9 v w 5) + p1))) (fun σ_2 => some σ_2))
theorem m_C_X3_breaks {l : Launch} {D : va_G} {d : Nat → ClassId} {hs : IX} {Δ : DT} {v : Nat} {w : Nat} {p1 : Int32} {σ : ST} {z : ST} (hk : okC Δ 8 v w = true) (hf : C_X3_breaks Δ v w σ p1 = some z) : XM l D d EN yX3_breaks cX3_breaks 2 none 1 0 0 [.ref ((hC hs) 8 v w), .int p1] (hC hs) (xct (LC Δ) (okC Δ) (hC hs) d σ) (Qv D (pu z) (cw (hC hs) (LC Δ) (okC Δ) d)) := by
  refine XM.of (by decide +kernel) (Nat.le_of_ble_eq_true rfl) ?_
  intro p e s m below meth c A ls X _ K _ O hl
  have hl : lv_has ls 2 [(0, .ref ((hC hs) 8 v w)), (1, .int p1)] := hl
  have hx := X.1.1; have hb := X.1.2.1
  rw [C_X3_breaks] at hf
  refine lv_aload_n hx hb dX3_breaks_0 rfl (lv_at hl 0 rfl) ?_
  refine x_gF X K O 0 hk LC_8 rfl rfl in_X3 (by decide) q275 dX3_breaks_1 ?_
  refine lv_iconst (v := 3) hx hb dX3_breaks_4 (by decide) ?_
  refine lv_sipush (v := 9999) hx hb dX3_breaks_5 (by decide) ?_
  refine lv_aload_n hx hb dX3_breaks_8 rfl (lv_at hl 0 rfl) ?_
  refine x_gF X K O 0 hk LC_8 rfl rfl in_X3 (by decide) q275 dX3_breaks_9 ?_
  refine lv_iconst (v := 3) hx hb dX3_breaks_12 (by decide) ?_
  refine x_ild X K O hk LC_9 (by decide) (j := 3) rfl dX3_breaks_13 ?_
  refine lv_iconst (v := 1) hx hb dX3_breaks_14 (by decide) ?_
  refine lv_iadd hx hb dX3_breaks_15 ?_
  refine va_mmin hx hb (X.1.2.2.1.trans hl.1.symm) X.1.2.2.2.1 (X.1.2.2.2.2 _ q907) (X.1.2.2.2.2 _ q230) (X.1.2.2.2.2 _ q116) (X.1.2.2.2.2 _ q231) (by decide) (Nat.le_of_ble_eq_true rfl) (Nat.le_refl _) (Nat.le_refl _) dX3_breaks_16 ?_
  refine x_top (w := .int (imin 9999 ((gI σ 9 v w 3) + 1))) rfl ?_
  obtain ⟨σ_1, eσ_1, hf⟩ := lt1_s hf
  refine x_ist X K O hk LC_9 (by decide) (j := 3) rfl dX3_breaks_19 (fun H locs O => ?_)
  rw [← eσ_1] at O
  refine lv_aload_n hx hb dX3_breaks_20 rfl (lv_at hl 0 rfl) ?_
  refine x_gF X K O 0 hk LC_8 rfl rfl in_X3 (by decide) q275 dX3_breaks_21 ?_
  refine lv_iconst (v := 5) hx hb dX3_breaks_24 (by decide) ?_
  refine lv_sipush (v := 9999) hx hb dX3_breaks_25 (by decide) ?_
  refine lv_aload_n hx hb dX3_breaks_28 rfl (lv_at hl 0 rfl) ?_
  refine x_gF X K O 0 hk LC_8 rfl rfl in_X3 (by decide) q275 dX3_breaks_29 ?_
  refine lv_iconst (v := 5) hx hb dX3_breaks_32 (by decide) ?_
  refine x_ild X K O hk LC_9 (by decide) (j := 5) rfl dX3_breaks_33 ?_
  refine lv_iload_n hx hb dX3_breaks_34 rfl (lv_at hl 1 rfl) ?_
  refine lv_iadd hx hb dX3_breaks_35 ?_
  refine va_mmin hx hb (X.1.2.2.1.trans hl.1.symm) X.1.2.2.2.1 (X.1.2.2.2.2 _ q907) (X.1.2.2.2.2 _ q230) (X.1.2.2.2.2 _ q116) (X.1.2.2.2.2 _ q231) (by decide) (Nat.le_of_ble_eq_true rfl) (Nat.le_refl _) (Nat.le_refl _) dX3_breaks_36 ?_
  refine x_top (w := .int (imin 9999 ((gI σ_1 9 v w 5) + p1))) rfl ?_
  obtain ⟨σ_2, eσ_2, hf⟩ := lt1_s hf
  refine x_ist X K O hk LC_9 (by decide) (j := 5) rfl dX3_breaks_39 (fun H locs O => ?_)
  rw [← eσ_2] at O
  exact x_vret X O rfl _ (Option.some.inj hf).symm rfl dX3_breaks_40
def C_X3_cuts_b2 (Δ : DT) (v : Nat) (w : Nat) : Nat → ST → Int32 → Option (ST)
  | 0, _, _ => none
  | n + 1, σ, x1 =>
    (if 4 ≤ x1 then some σ else ck (okI (2 + x1) 9) (lt1 (sI σ 9 v w (Int32.toNatClampNeg (2 + x1)) 0) (fun σ_3 => lt1 (x1 + 1) (fun x1_4 => (C_X3_cuts_b2 Δ v w n) σ_3 x1_4))))
theorem w_C_X3_cuts_b2 {Δ : DT} {v : Nat} {w : Nat} (X : FX p m c meth s args RX3 cX3_cuts 2 none) (K : XK D d A s) {z : ST} (hk : okC Δ 8 v w = true) : ∀ (n : Nat) (σ : ST) (x1 : Int32) (ls : Array Slot) (H : Heap) (locs : List Loc), XH D A s.heap (hC hs) (xct (LC Δ) (okC Δ) (hC hs) d σ) H locs → lv_has ls 2 [(0, .ref ((hC hs) 8 v w)), (1, .int x1)] → C_X3_cuts_b2 Δ v w n σ x1 = some z → W p l e (rmD 0 0 0) s m args below meth c H locs 0 0 (MQ below (Qv D (pu z) (cw (hC hs) (LC Δ) (okC Δ) d) A) args s 0 0 A) (F0 m 2 ls []) := by
  have hx := X.1.1; have hb := X.1.2.1
  intro n
  induction n with
  | zero =>
    intro σ x1 ls H locs O hl hf
    exact absurd hf (fun q => by cases q)
  | succ n ih =>
    intro σ x1 ls H locs O hl hf
    rw [C_X3_cuts_b2] at hf
    refine lv_iload_n hx hb dX3_cuts_2 rfl (lv_at hl 1 rfl) ?_
    refine lv_iconst (v := 4) hx hb dX3_cuts_3 (by decide) ?_
    refine lv_icmp_ge (tgt := 22) hx hb dX3_cuts_4 (by decide) (fun c_1 => ?_) (fun c_1 => ?_)
    · replace hf := if_t c_1 hf
      exact x_vret X O rfl _ (Option.some.inj hf).symm rfl dX3_cuts_22
    · replace hf := if_f c_1 hf
      refine lv_aload_n hx hb dX3_cuts_7 rfl (lv_at hl 0 rfl) ?_
      refine x_gF X K O 0 hk LC_8 rfl rfl in_X3 (by decide) q275 dX3_cuts_8 ?_
      refine lv_iconst (v := 2) hx hb dX3_cuts_11 (by decide) ?_
      refine lv_iload_n hx hb dX3_cuts_12 rfl (lv_at hl 1 rfl) ?_
      refine lv_iadd hx hb dX3_cuts_13 ?_
      refine lv_iconst (v := 0) hx hb dX3_cuts_14 (by decide) ?_
      obtain ⟨c_2, hf⟩ := ck_s hf
      obtain ⟨σ_3, eσ_3, hf⟩ := lt1_s hf
      refine x_ist X K O hk LC_9 c_2 (j := (Int32.toNatClampNeg (2 + x1))) rfl dX3_cuts_15 (fun H locs O => ?_)
      rw [← eσ_3] at O
      obtain ⟨x1_4, ex1_4, hf⟩ := lt1_s hf
      refine lv_iinc (v := x1_4) (lv' := [(1, .int x1_4), (0, .ref ((hC hs) 8 v w))]) hx hb dX3_cuts_16 hl (k := 1) rfl (by rw [ex1_4]; rfl) (by decide) rfl (fun ls hl => ?_)
      refine lv_goto (tgt := 2) hx hb dX3_cuts_19 (by decide) ?_
      exact ih _ _ ls _ _ O (lv_sub hl [1, 0] rfl) hf
def C_X3_cuts (Δ : DT) (v : Nat) (w : Nat) (σ : ST) : Option (ST) :=
  C_X3_cuts_b2 Δ v w FUEL σ 0
theorem m_C_X3_cuts {l : Launch} {D : va_G} {d : Nat → ClassId} {hs : IX} {Δ : DT} {v : Nat} {w : Nat} {σ : ST} {z : ST} (hk : okC Δ 8 v w = true) (hf : C_X3_cuts Δ v w σ = some z) : XM l D d EN yX3_cuts cX3_cuts 2 none 0 0 0 [.ref ((hC hs) 8 v w)] (hC hs) (xct (LC Δ) (okC Δ) (hC hs) d σ) (Qv D (pu z) (cw (hC hs) (LC Δ) (okC Δ) d)) := by
  refine XM.of (by decide +kernel) (Nat.le_of_ble_eq_true rfl) ?_
  intro p e s m below meth c A ls X _ K _ O hl
  have hl : lv_has ls 2 [(0, .ref ((hC hs) 8 v w))] := hl
  have hx := X.1.1; have hb := X.1.2.1
  rw [C_X3_cuts] at hf
  refine lv_iconst (v := 0) hx hb dX3_cuts_0 (by decide) ?_
  refine lv_istore_n (lv' := [(1, .int 0), (0, .ref ((hC hs) 8 v w))]) hx hb dX3_cuts_1 rfl hl (by decide) rfl (fun ls hl => ?_)
  exact w_C_X3_cuts_b2 X K hk _ _ _ ls _ _ O (lv_sub hl [1, 0] rfl) hf
def C_X3_takes_b2 (Δ : DT) (v : Nat) (w : Nat) (p1a : Nat) (p1b : Nat) : Nat → ST → Int32 → Option (ST)
  | 0, _, _ => none
  | n + 1, σ, x2 =>
    (if 9 ≤ x2 then some σ else ck (okI x2 9) (ck (okI x2 9) (lt1 (sI σ 9 v w (Int32.toNatClampNeg x2) (gI σ 9 p1a p1b (Int32.toNatClampNeg x2))) (fun σ_4 => lt1 (x2 + 1) (fun x2_5 => (C_X3_takes_b2 Δ v w p1a p1b n) σ_4 x2_5)))))
theorem w_C_X3_takes_b2 {Δ : DT} {v : Nat} {w : Nat} {p1a : Nat} {p1b : Nat} (X : FX p m c meth s args RX3 cX3_takes 3 none) (K : XK D d A s) {z : ST} (hk : okC Δ 8 v w = true) (hp1 : okC Δ 8 p1a p1b = true) : ∀ (n : Nat) (σ : ST) (x2 : Int32) (kx1 : (okC Δ) 8 p1a p1b = true) (ls : Array Slot) (H : Heap) (locs : List Loc), XH D A s.heap (hC hs) (xct (LC Δ) (okC Δ) (hC hs) d σ) H locs → lv_has ls 3 [(0, .ref ((hC hs) 8 v w)), (1, .ref ((hC hs) 8 p1a p1b)), (2, .int x2)] → C_X3_takes_b2 Δ v w p1a p1b n σ x2 = some z → W p l e (rmD 0 0 0) s m args below meth c H locs 0 0 (MQ below (Qv D (pu z) (cw (hC hs) (LC Δ) (okC Δ) d) A) args s 0 0 A) (F0 m 2 ls []) := by
  have hx := X.1.1; have hb := X.1.2.1
  intro n
  induction n with
  | zero =>
    intro σ x2 kx1 ls H locs O hl hf
    exact absurd hf (fun q => by cases q)
  | succ n ih =>
    intro σ x2 kx1 ls H locs O hl hf
    rw [C_X3_takes_b2] at hf
    refine lv_iload_n hx hb dX3_takes_2 rfl (lv_at hl 2 rfl) ?_
    refine lv_aload_n hx hb dX3_takes_3 rfl (lv_at hl 0 rfl) ?_
    refine x_gF X K O 0 hk LC_8 rfl rfl in_X3 (by decide) q275 dX3_takes_4 ?_
    refine x_len (v := 9) X K O 0 hk LC_9 rfl (by decide) dX3_takes_7 ?_
    refine lv_icmp_ge (tgt := 29) hx hb dX3_takes_8 (by decide) (fun c_1 => ?_) (fun c_1 => ?_)
    · replace hf := if_t c_1 hf
      exact x_vret X O rfl _ (Option.some.inj hf).symm rfl dX3_takes_29
    · replace hf := if_f c_1 hf
      refine lv_aload_n hx hb dX3_takes_11 rfl (lv_at hl 0 rfl) ?_
      refine x_gF X K O 0 hk LC_8 rfl rfl in_X3 (by decide) q275 dX3_takes_12 ?_
      refine lv_iload_n hx hb dX3_takes_15 rfl (lv_at hl 2 rfl) ?_
      refine lv_aload_n hx hb dX3_takes_16 rfl (lv_at hl 1 rfl) ?_
      refine x_gF X K O 0 kx1 LC_8 rfl rfl in_X3 (by decide) q275 dX3_takes_17 ?_
      refine lv_iload_n hx hb dX3_takes_20 rfl (lv_at hl 2 rfl) ?_
      obtain ⟨c_2, hf⟩ := ck_s hf
      refine x_ild X K O kx1 LC_9 c_2 (j := (Int32.toNatClampNeg x2)) rfl dX3_takes_21 ?_
      obtain ⟨c_3, hf⟩ := ck_s hf
      obtain ⟨σ_4, eσ_4, hf⟩ := lt1_s hf
      refine x_ist X K O hk LC_9 c_3 (j := (Int32.toNatClampNeg x2)) rfl dX3_takes_22 (fun H locs O => ?_)
      rw [← eσ_4] at O
      obtain ⟨x2_5, ex2_5, hf⟩ := lt1_s hf
      refine lv_iinc (v := x2_5) (lv' := [(2, .int x2_5), (0, .ref ((hC hs) 8 v w)), (1, .ref ((hC hs) 8 p1a p1b))]) hx hb dX3_takes_23 hl (k := 2) rfl (by rw [ex2_5]; rfl) (by decide) rfl (fun ls hl => ?_)
      refine lv_goto (tgt := 2) hx hb dX3_takes_26 (by decide) ?_
      exact ih _ _ kx1 ls _ _ O (lv_sub hl [1, 2, 0] rfl) hf
def C_X3_takes (Δ : DT) (v : Nat) (w : Nat) (p1a : Nat) (p1b : Nat) (σ : ST) : Option (ST) :=
  C_X3_takes_b2 Δ v w p1a p1b FUEL σ 0
theorem m_C_X3_takes {l : Launch} {D : va_G} {d : Nat → ClassId} {hs : IX} {Δ : DT} {v : Nat} {w : Nat} {p1a : Nat} {p1b : Nat} {σ : ST} {z : ST} (hk : okC Δ 8 v w = true) (hp1 : okC Δ 8 p1a p1b = true) (hf : C_X3_takes Δ v w p1a p1b σ = some z) : XM l D d EN yX3_takes cX3_takes 3 none 0 0 0 [.ref ((hC hs) 8 v w), .ref ((hC hs) 8 p1a p1b)] (hC hs) (xct (LC Δ) (okC Δ) (hC hs) d σ) (Qv D (pu z) (cw (hC hs) (LC Δ) (okC Δ) d)) := by
  refine XM.of (by decide +kernel) (Nat.le_of_ble_eq_true rfl) ?_
  intro p e s m below meth c A ls X _ K _ O hl
  have hl : lv_has ls 3 [(0, .ref ((hC hs) 8 v w)), (1, .ref ((hC hs) 8 p1a p1b))] := hl
  have hx := X.1.1; have hb := X.1.2.1
  rw [C_X3_takes] at hf
  refine lv_iconst (v := 0) hx hb dX3_takes_0 (by decide) ?_
  refine lv_istore_n (lv' := [(2, .int 0), (0, .ref ((hC hs) 8 v w)), (1, .ref ((hC hs) 8 p1a p1b))]) hx hb dX3_takes_1 rfl hl (by decide) rfl (fun ls hl => ?_)
  exact w_C_X3_takes_b2 X K hk hp1 _ _ _ hp1 ls _ _ O (lv_sub hl [1, 2, 0] rfl) hf
def C_X4_takes_b2 (Δ : DT) (v : Nat) (w : Nat) (p1a : Nat) (p1b : Nat) : Nat → ST → Int32 → Option (ST)
  | 0, _, _ => none
  | n + 1, σ, x2 =>
    (if 8 ≤ x2 then some σ else ck (okI x2 8) (ck (okI x2 8) (lt1 (sI σ 11 v w (Int32.toNatClampNeg x2) (gI σ 11 p1a p1b (Int32.toNatClampNeg x2))) (fun σ_4 => lt1 (x2 + 1) (fun x2_5 => (C_X4_takes_b2 Δ v w p1a p1b n) σ_4 x2_5)))))
theorem w_C_X4_takes_b2 {Δ : DT} {v : Nat} {w : Nat} {p1a : Nat} {p1b : Nat} (X : FX p m c meth s args RX4 cX4_takes 3 none) (K : XK D d A s) {z : ST} (hk : okC Δ 10 v w = true) (hp1 : okC Δ 10 p1a p1b = true) : ∀ (n : Nat) (σ : ST) (x2 : Int32) (kx1 : (okC Δ) 10 p1a p1b = true) (ls : Array Slot) (H : Heap) (locs : List Loc), XH D A s.heap (hC hs) (xct (LC Δ) (okC Δ) (hC hs) d σ) H locs → lv_has ls 3 [(0, .ref ((hC hs) 10 v w)), (1, .ref ((hC hs) 10 p1a p1b)), (2, .int x2)] → C_X4_takes_b2 Δ v w p1a p1b n σ x2 = some z → W p l e (rmD 0 0 0) s m args below meth c H locs 0 0 (MQ below (Qv D (pu z) (cw (hC hs) (LC Δ) (okC Δ) d) A) args s 0 0 A) (F0 m 2 ls []) := by
  have hx := X.1.1; have hb := X.1.2.1
  intro n
  induction n with
  | zero =>
    intro σ x2 kx1 ls H locs O hl hf
    exact absurd hf (fun q => by cases q)
  | succ n ih =>
    intro σ x2 kx1 ls H locs O hl hf
    rw [C_X4_takes_b2] at hf
    refine lv_iload_n hx hb dX4_takes_2 rfl (lv_at hl 2 rfl) ?_
    refine lv_aload_n hx hb dX4_takes_3 rfl (lv_at hl 0 rfl) ?_
    refine x_gF X K O 0 hk LC_10 rfl rfl in_X4 (by decide) q287 dX4_takes_4 ?_
    refine x_len (v := 8) X K O 0 hk LC_11 rfl (by decide) dX4_takes_7 ?_
    refine lv_icmp_ge (tgt := 29) hx hb dX4_takes_8 (by decide) (fun c_1 => ?_) (fun c_1 => ?_)
    · replace hf := if_t c_1 hf
      exact x_vret X O rfl _ (Option.some.inj hf).symm rfl dX4_takes_29
    · replace hf := if_f c_1 hf
      refine lv_aload_n hx hb dX4_takes_11 rfl (lv_at hl 0 rfl) ?_
      refine x_gF X K O 0 hk LC_10 rfl rfl in_X4 (by decide) q287 dX4_takes_12 ?_
      refine lv_iload_n hx hb dX4_takes_15 rfl (lv_at hl 2 rfl) ?_
      refine lv_aload_n hx hb dX4_takes_16 rfl (lv_at hl 1 rfl) ?_
      refine x_gF X K O 0 kx1 LC_10 rfl rfl in_X4 (by decide) q287 dX4_takes_17 ?_
      refine lv_iload_n hx hb dX4_takes_20 rfl (lv_at hl 2 rfl) ?_
      obtain ⟨c_2, hf⟩ := ck_s hf
      refine x_ild X K O kx1 LC_11 c_2 (j := (Int32.toNatClampNeg x2)) rfl dX4_takes_21 ?_
      obtain ⟨c_3, hf⟩ := ck_s hf
      obtain ⟨σ_4, eσ_4, hf⟩ := lt1_s hf
      refine x_ist X K O hk LC_11 c_3 (j := (Int32.toNatClampNeg x2)) rfl dX4_takes_22 (fun H locs O => ?_)
      rw [← eσ_4] at O
      obtain ⟨x2_5, ex2_5, hf⟩ := lt1_s hf
      refine lv_iinc (v := x2_5) (lv' := [(2, .int x2_5), (0, .ref ((hC hs) 10 v w)), (1, .ref ((hC hs) 10 p1a p1b))]) hx hb dX4_takes_23 hl (k := 2) rfl (by rw [ex2_5]; rfl) (by decide) rfl (fun ls hl => ?_)
      refine lv_goto (tgt := 2) hx hb dX4_takes_26 (by decide) ?_
      exact ih _ _ kx1 ls _ _ O (lv_sub hl [1, 2, 0] rfl) hf
def C_X4_takes (Δ : DT) (v : Nat) (w : Nat) (p1a : Nat) (p1b : Nat) (σ : ST) : Option (ST) :=
  C_X4_takes_b2 Δ v w p1a p1b FUEL σ 0
theorem m_C_X4_takes {l : Launch} {D : va_G} {d : Nat → ClassId} {hs : IX} {Δ : DT} {v : Nat} {w : Nat} {p1a : Nat} {p1b : Nat} {σ : ST} {z : ST} (hk : okC Δ 10 v w = true) (hp1 : okC Δ 10 p1a p1b = true) (hf : C_X4_takes Δ v w p1a p1b σ = some z) : XM l D d EN yX4_takes cX4_takes 3 none 0 0 0 [.ref ((hC hs) 10 v w), .ref ((hC hs) 10 p1a p1b)] (hC hs) (xct (LC Δ) (okC Δ) (hC hs) d σ) (Qv D (pu z) (cw (hC hs) (LC Δ) (okC Δ) d)) := by
  refine XM.of (by decide +kernel) (Nat.le_of_ble_eq_true rfl) ?_
  intro p e s m below meth c A ls X _ K _ O hl
  have hl : lv_has ls 3 [(0, .ref ((hC hs) 10 v w)), (1, .ref ((hC hs) 10 p1a p1b))] := hl
  have hx := X.1.1; have hb := X.1.2.1
  rw [C_X4_takes] at hf
  refine lv_iconst (v := 0) hx hb dX4_takes_0 (by decide) ?_
  refine lv_istore_n (lv' := [(2, .int 0), (0, .ref ((hC hs) 10 v w)), (1, .ref ((hC hs) 10 p1a p1b))]) hx hb dX4_takes_1 rfl hl (by decide) rfl (fun ls hl => ?_)
  exact w_C_X4_takes_b2 X K hk hp1 _ _ _ hp1 ls _ _ O (lv_sub hl [1, 2, 0] rfl) hf
def C_X4_who (Δ : DT) (v : Nat) (w : Nat) (σ : ST) (p1 : Int32) : Option (ST × Int32) :=
  ck (okI (1 + p1) 8) (some (σ, (gI σ 11 v w (Int32.toNatClampNeg (1 + p1)))))
theorem m_C_X4_who {l : Launch} {D : va_G} {d : Nat → ClassId} {hs : IX} {Δ : DT} {v : Nat} {w : Nat} {p1 : Int32} {σ : ST} {z : ST × Int32} (hk : okC Δ 10 v w = true) (hf : C_X4_who Δ v w σ p1 = some z) : XM l D d EN yX4_who cX4_who 2 (some .int) 0 0 0 [.ref ((hC hs) 10 v w), .int p1] (hC hs) (xct (LC Δ) (okC Δ) (hC hs) d σ) (Qi D (pz z) (cw (hC hs) (LC Δ) (okC Δ) d)) := by
  refine XM.of (by decide +kernel) (Nat.le_of_ble_eq_true rfl) ?_
  intro p e s m below meth c A ls X _ K _ O hl
  have hl : lv_has ls 2 [(0, .ref ((hC hs) 10 v w)), (1, .int p1)] := hl
  have hx := X.1.1; have hb := X.1.2.1
  rw [C_X4_who] at hf
  refine lv_aload_n hx hb dX4_who_0 rfl (lv_at hl 0 rfl) ?_
  refine x_gF X K O 0 hk LC_10 rfl rfl in_X4 (by decide) q287 dX4_who_1 ?_
  refine lv_iconst (v := 1) hx hb dX4_who_4 (by decide) ?_
  refine lv_iload_n hx hb dX4_who_5 rfl (lv_at hl 1 rfl) ?_
  refine lv_iadd hx hb dX4_who_6 ?_
  obtain ⟨c_1, hf⟩ := ck_s hf
  refine x_ild X K O hk LC_11 c_1 (j := (Int32.toNatClampNeg (1 + p1))) rfl dX4_who_7 ?_
  exact x_iret X O rfl _ (Option.some.inj hf).symm rfl dX4_who_8
def C_X4_did (Δ : DT) (v : Nat) (w : Nat) (σ : ST) (p1 : Int32) : Option (ST × Int32) :=
  ck (okI (4 + p1) 8) (some (σ, (gI σ 11 v w (Int32.toNatClampNeg (4 + p1)))))
theorem m_C_X4_did {l : Launch} {D : va_G} {d : Nat → ClassId} {hs : IX} {Δ : DT} {v : Nat} {w : Nat} {p1 : Int32} {σ : ST} {z : ST × Int32} (hk : okC Δ 10 v w = true) (hf : C_X4_did Δ v w σ p1 = some z) : XM l D d EN yX4_did cX4_did 2 (some .int) 0 0 0 [.ref ((hC hs) 10 v w), .int p1] (hC hs) (xct (LC Δ) (okC Δ) (hC hs) d σ) (Qi D (pz z) (cw (hC hs) (LC Δ) (okC Δ) d)) := by
  refine XM.of (by decide +kernel) (Nat.le_of_ble_eq_true rfl) ?_
  intro p e s m below meth c A ls X _ K _ O hl
  have hl : lv_has ls 2 [(0, .ref ((hC hs) 10 v w)), (1, .int p1)] := hl
  have hx := X.1.1; have hb := X.1.2.1
  rw [C_X4_did] at hf
  refine lv_aload_n hx hb dX4_did_0 rfl (lv_at hl 0 rfl) ?_
  refine x_gF X K O 0 hk LC_10 rfl rfl in_X4 (by decide) q287 dX4_did_1 ?_
  refine lv_iconst (v := 4) hx hb dX4_did_4 (by decide) ?_
  refine lv_iload_n hx hb dX4_did_5 rfl (lv_at hl 1 rfl) ?_
  refine lv_iadd hx hb dX4_did_6 ?_
  obtain ⟨c_1, hf⟩ := ck_s hf
  refine x_ild X K O hk LC_11 c_1 (j := (Int32.toNatClampNeg (4 + p1))) rfl dX4_did_7 ?_
  exact x_iret X O rfl _ (Option.some.inj hf).symm rfl dX4_did_8
def C_X4_age (Δ : DT) (v : Nat) (w : Nat) (σ : ST) (p1 : Int32) : Option (ST × Int32) :=
  ck (okI (6 + p1) 8) (some (σ, (gI σ 11 v w (Int32.toNatClampNeg (6 + p1)))))
theorem m_C_X4_age {l : Launch} {D : va_G} {d : Nat → ClassId} {hs : IX} {Δ : DT} {v : Nat} {w : Nat} {p1 : Int32} {σ : ST} {z : ST × Int32} (hk : okC Δ 10 v w = true) (hf : C_X4_age Δ v w σ p1 = some z) : XM l D d EN yX4_age cX4_age 2 (some .int) 0 0 0 [.ref ((hC hs) 10 v w), .int p1] (hC hs) (xct (LC Δ) (okC Δ) (hC hs) d σ) (Qi D (pz z) (cw (hC hs) (LC Δ) (okC Δ) d)) := by
  refine XM.of (by decide +kernel) (Nat.le_of_ble_eq_true rfl) ?_
  intro p e s m below meth c A ls X _ K _ O hl
  have hl : lv_has ls 2 [(0, .ref ((hC hs) 10 v w)), (1, .int p1)] := hl
  have hx := X.1.1; have hb := X.1.2.1
  rw [C_X4_age] at hf
  refine lv_aload_n hx hb dX4_age_0 rfl (lv_at hl 0 rfl) ?_
  refine x_gF X K O 0 hk LC_10 rfl rfl in_X4 (by decide) q287 dX4_age_1 ?_
  refine lv_bipush (v := 6) hx hb dX4_age_4 (by decide) ?_
  refine lv_iload_n hx hb dX4_age_6 rfl (lv_at hl 1 rfl) ?_
  refine lv_iadd hx hb dX4_age_7 ?_
  obtain ⟨c_1, hf⟩ := ck_s hf
  refine x_ild X K O hk LC_11 c_1 (j := (Int32.toNatClampNeg (6 + p1))) rfl dX4_age_8 ?_
  exact x_iret X O rfl _ (Option.some.inj hf).symm rfl dX4_age_9
def C_X1_draw (Δ : DT) (v : Nat) (σ : ST) (p1 : Int32) : Option (ST × Int32) :=
  lt1 (sI σ 1 v 0 8 ((1664525 * (gI σ 1 v 0 8)) + 1013904223)) (fun σ_1 => ck (decide (¬ p1 = 0)) (some (σ_1, ((ushr (gI σ_1 1 v 0 8) 8) - (ushr (gI σ_1 1 v 0 8) 8) / p1 * p1))))
theorem m_C_X1_draw {l : Launch} {D : va_G} {d : Nat → ClassId} {hs : IX} {Δ : DT} {v : Nat} {p1 : Int32} {σ : ST} {z : ST × Int32} (hk : okC Δ 1 v 0 = true) (hf : C_X1_draw Δ v σ p1 = some z) : XM l D d EN yX1_draw cX1_draw 2 (some .int) 0 0 0 [.ref ((hC hs) 1 v 0), .int p1] (hC hs) (xct (LC Δ) (okC Δ) (hC hs) d σ) (Qi D (pz z) (cw (hC hs) (LC Δ) (okC Δ) d)) := by
  refine XM.of (by decide +kernel) (Nat.le_of_ble_eq_true rfl) ?_
  intro p e s m below meth c A ls X _ K _ O hl
  have hl : lv_has ls 2 [(0, .ref ((hC hs) 1 v 0)), (1, .int p1)] := hl
  have hx := X.1.1; have hb := X.1.2.1
  rw [C_X1_draw] at hf
  refine lv_aload_n hx hb dX1_draw_0 rfl (lv_at hl 0 rfl) ?_
  refine lv_ldc (v := 1664525) hx hb X.1.2.2.2.1 (X.1.2.2.2.2 _ q901) dX1_draw_1 ?_
  refine lv_aload_n hx hb dX1_draw_3 rfl (lv_at hl 0 rfl) ?_
  refine x_gI X K O 8 hk LC_1 rfl rfl in_X1 (by decide) q310 dX1_draw_4 ?_
  refine lv_imul hx hb dX1_draw_7 ?_
  refine lv_ldc (v := 1013904223) hx hb X.1.2.2.2.1 (X.1.2.2.2.2 _ q902) dX1_draw_8 ?_
  refine lv_iadd hx hb dX1_draw_10 ?_
  obtain ⟨σ_1, eσ_1, hf⟩ := lt1_s hf
  refine x_pI X K O 8 hk LC_1 rfl rfl in_X1 tyX1_ok nmX1 (by decide) q310 rfl rfl rfl dX1_draw_11 (fun H locs O => ?_)
  rw [← eσ_1] at O
  refine lv_aload_n hx hb dX1_draw_14 rfl (lv_at hl 0 rfl) ?_
  refine x_gI X K O 8 hk LC_1 rfl rfl in_X1 (by decide) q310 dX1_draw_15 ?_
  refine lv_bipush (v := 8) hx hb dX1_draw_18 (by decide) ?_
  refine lv_iushr (v := (ushr (gI σ_1 1 v 0 8) 8)) hx hb dX1_draw_20 rfl ?_
  refine lv_iload_n hx hb dX1_draw_21 rfl (lv_at hl 1 rfl) ?_
  obtain ⟨c_2, hf⟩ := ck_s hf
  refine lv_irem hx hb dX1_draw_22 (of_decide_eq_true c_2) ?_
  exact x_iret X O rfl _ (Option.some.inj hf).symm rfl dX1_draw_23
def C_X1_weights_b4 (Δ : DT) (v : Nat) : Nat → ST → Int32 → Int32 → Option (ST × Int32)
  | 0, _, _, _ => none
  | n + 1, σ, x1, x2 =>
    (if 12 < x2 then some (σ, x1) else ck (okI (10 + x2) 23) (lt1 (x1 + (gI σ 4 v 0 (Int32.toNatClampNeg (10 + x2)))) (fun x1_3 => lt1 (x2 + 1) (fun x2_4 => (C_X1_weights_b4 Δ v n) σ x1_3 x2_4))))
theorem w_C_X1_weights_b4 {Δ : DT} {v : Nat} (X : FX p m c meth s args RX1 cX1_weights 3 (some .int)) (K : XK D d A s) {z : ST × Int32} (hk : okC Δ 1 v 0 = true) : ∀ (n : Nat) (σ : ST) (x1 : Int32) (x2 : Int32) (ls : Array Slot) (H : Heap) (locs : List Loc), XH D A s.heap (hC hs) (xct (LC Δ) (okC Δ) (hC hs) d σ) H locs → lv_has ls 3 [(0, .ref ((hC hs) 1 v 0)), (1, .int x1), (2, .int x2)] → C_X1_weights_b4 Δ v n σ x1 x2 = some z → W p l e (rmD 0 0 0) s m args below meth c H locs 0 0 (MQ below (Qi D (pz z) (cw (hC hs) (LC Δ) (okC Δ) d) A) args s 0 0 A) (F0 m 4 ls []) := by
  have hx := X.1.1; have hb := X.1.2.1
  intro n
  induction n with
  | zero =>
    intro σ x1 x2 ls H locs O hl hf
    exact absurd hf (fun q => by cases q)
  | succ n ih =>
    intro σ x1 x2 ls H locs O hl hf
    rw [C_X1_weights_b4] at hf
    refine lv_iload_n hx hb dX1_weights_4 rfl (lv_at hl 2 rfl) ?_
    refine lv_bipush (v := 12) hx hb dX1_weights_5 (by decide) ?_
    refine lv_icmp_gt (tgt := 28) hx hb dX1_weights_7 (by decide) (fun c_1 => ?_) (fun c_1 => ?_)
    · replace hf := if_t c_1 hf
      refine lv_iload_n hx hb dX1_weights_28 rfl (lv_at hl 1 rfl) ?_
      exact x_iret X O rfl _ (Option.some.inj hf).symm rfl dX1_weights_29
    · replace hf := if_f c_1 hf
      refine lv_iload_n hx hb dX1_weights_10 rfl (lv_at hl 1 rfl) ?_
      refine lv_aload_n hx hb dX1_weights_11 rfl (lv_at hl 0 rfl) ?_
      refine x_gF X K O 2 hk LC_1 rfl rfl in_X1 (by decide) q298 dX1_weights_12 ?_
      refine lv_bipush (v := 10) hx hb dX1_weights_15 (by decide) ?_
      refine lv_iload_n hx hb dX1_weights_17 rfl (lv_at hl 2 rfl) ?_
      refine lv_iadd hx hb dX1_weights_18 ?_
      obtain ⟨c_2, hf⟩ := ck_s hf
      refine x_ild X K O hk LC_4 c_2 (j := (Int32.toNatClampNeg (10 + x2))) rfl dX1_weights_19 ?_
      refine lv_iadd hx hb dX1_weights_20 ?_
      obtain ⟨x1_3, ex1_3, hf⟩ := lt1_s hf
      refine x_top (w := .int x1_3) (by rw [ex1_3]) ?_
      refine lv_istore_n (lv' := [(1, .int x1_3), (0, .ref ((hC hs) 1 v 0)), (2, .int x2)]) hx hb dX1_weights_21 rfl hl (by decide) rfl (fun ls hl => ?_)
      obtain ⟨x2_4, ex2_4, hf⟩ := lt1_s hf
      refine lv_iinc (v := x2_4) (lv' := [(2, .int x2_4), (1, .int x1_3), (0, .ref ((hC hs) 1 v 0))]) hx hb dX1_weights_22 hl (k := 2) rfl (by rw [ex2_4]; rfl) (by decide) rfl (fun ls hl => ?_)
      refine lv_goto (tgt := 4) hx hb dX1_weights_25 (by decide) ?_
      exact ih _ _ _ ls _ _ O (lv_sub hl [2, 1, 0] rfl) hf
def C_X1_weights (Δ : DT) (v : Nat) (σ : ST) : Option (ST × Int32) :=
  C_X1_weights_b4 Δ v FUEL σ 0 1
theorem m_C_X1_weights {l : Launch} {D : va_G} {d : Nat → ClassId} {hs : IX} {Δ : DT} {v : Nat} {σ : ST} {z : ST × Int32} (hk : okC Δ 1 v 0 = true) (hf : C_X1_weights Δ v σ = some z) : XM l D d EN yX1_weights cX1_weights 3 (some .int) 0 0 0 [.ref ((hC hs) 1 v 0)] (hC hs) (xct (LC Δ) (okC Δ) (hC hs) d σ) (Qi D (pz z) (cw (hC hs) (LC Δ) (okC Δ) d)) := by
  refine XM.of (by decide +kernel) (Nat.le_of_ble_eq_true rfl) ?_
  intro p e s m below meth c A ls X _ K _ O hl
  have hl : lv_has ls 3 [(0, .ref ((hC hs) 1 v 0))] := hl
  have hx := X.1.1; have hb := X.1.2.1
  rw [C_X1_weights] at hf
  refine lv_iconst (v := 0) hx hb dX1_weights_0 (by decide) ?_
  refine lv_istore_n (lv' := [(1, .int 0), (0, .ref ((hC hs) 1 v 0))]) hx hb dX1_weights_1 rfl hl (by decide) rfl (fun ls hl => ?_)
  refine lv_iconst (v := 1) hx hb dX1_weights_2 (by decide) ?_
  refine lv_istore_n (lv' := [(2, .int 1), (1, .int 0), (0, .ref ((hC hs) 1 v 0))]) hx hb dX1_weights_3 rfl hl (by decide) rfl (fun ls hl => ?_)
  exact w_C_X1_weights_b4 X K hk _ _ _ _ ls _ _ O (lv_sub hl [2, 1, 0] rfl) hf
def C_X1_isOut (Δ : DT) (v : Nat) (σ : ST) (p1 : Int32) : Option (ST × Int32) :=
  ck (okI p1 12) ((if (gI σ 9 v (Int32.toNatClampNeg p1) 6) ≤ 0 then some (σ, 0) else some (σ, 1)))
theorem m_C_X1_isOut {l : Launch} {D : va_G} {d : Nat → ClassId} {hs : IX} {Δ : DT} {v : Nat} {p1 : Int32} {σ : ST} {z : ST × Int32} (hk : okC Δ 1 v 0 = true) (hf : C_X1_isOut Δ v σ p1 = some z) : XM l D d EN yX1_isOut cX1_isOut 2 (some .boolean) 0 0 0 [.ref ((hC hs) 1 v 0), .int p1] (hC hs) (xct (LC Δ) (okC Δ) (hC hs) d σ) (Qi D (pz z) (cw (hC hs) (LC Δ) (okC Δ) d)) := by
  refine XM.of (by decide +kernel) (Nat.le_of_ble_eq_true rfl) ?_
  intro p e s m below meth c A ls X _ K _ O hl
  have hl : lv_has ls 2 [(0, .ref ((hC hs) 1 v 0)), (1, .int p1)] := hl
  have hx := X.1.1; have hb := X.1.2.1
  rw [C_X1_isOut] at hf
  refine lv_aload_n hx hb dX1_isOut_0 rfl (lv_at hl 0 rfl) ?_
  refine x_gF X K O 0 hk LC_1 rfl rfl in_X1 (by decide) q293 dX1_isOut_1 ?_
  refine lv_iload_n hx hb dX1_isOut_4 rfl (lv_at hl 1 rfl) ?_
  obtain ⟨c_1, hf⟩ := ck_s hf
  refine x_ald X K O 3 hk LC_5 (by decide) rfl rfl c_1 (j := (Int32.toNatClampNeg p1)) rfl dX1_isOut_5 ?_
  refine x_gFN X K O 0 (oks_b hk (okI_lt c_1)) LC_8 rfl rfl in_X3 (by decide) q277 dX1_isOut_6 ?_
  refine lv_bipush (v := 6) hx hb dX1_isOut_9 (by decide) ?_
  refine x_ild X K O (oks_b hk (okI_lt c_1)) LC_9 (by decide) (j := 6) rfl dX1_isOut_11 ?_
  refine lv_if_le (tgt := 19) hx hb dX1_isOut_12 (by decide) (fun c_2 => ?_) (fun c_2 => ?_)
  · replace hf := if_t c_2 hf
    refine lv_iconst (v := 0) hx hb dX1_isOut_19 (by decide) ?_
    exact x_zret X O rfl rfl _ (Option.some.inj hf).symm rfl dX1_isOut_20
  · replace hf := if_f c_2 hf
    refine lv_iconst (v := 1) hx hb dX1_isOut_15 (by decide) ?_
    refine lv_goto (tgt := 20) hx hb dX1_isOut_16 (by decide) ?_
    exact x_zret X O rfl rfl _ (Option.some.inj hf).symm rfl dX1_isOut_20
def C_X1_worth (Δ : DT) (v : Nat) (σ : ST) (p1 : Int32) (p2 : Int32) : Option (ST × Int32) :=
  (if p1 = 0 then (if p2 = 0 then some (σ, (gI σ 4 v 0 0)) else some (σ, (-(gI σ 4 v 0 2)))) else (if p2 = 0 then some (σ, (gI σ 4 v 0 1)) else some (σ, (-(gI σ 4 v 0 3)))))
theorem m_C_X1_worth {l : Launch} {D : va_G} {d : Nat → ClassId} {hs : IX} {Δ : DT} {v : Nat} {p1 : Int32} {p2 : Int32} {σ : ST} {z : ST × Int32} (hk : okC Δ 1 v 0 = true) (hf : C_X1_worth Δ v σ p1 p2 = some z) : XM l D d EN yX1_worth cX1_worth 3 (some .int) 0 0 0 [.ref ((hC hs) 1 v 0), .int p1, .int p2] (hC hs) (xct (LC Δ) (okC Δ) (hC hs) d σ) (Qi D (pz z) (cw (hC hs) (LC Δ) (okC Δ) d)) := by
  refine XM.of (by decide +kernel) (Nat.le_of_ble_eq_true rfl) ?_
  intro p e s m below meth c A ls X _ K _ O hl
  have hl : lv_has ls 3 [(0, .ref ((hC hs) 1 v 0)), (1, .int p1), (2, .int p2)] := hl
  have hx := X.1.1; have hb := X.1.2.1
  rw [C_X1_worth] at hf
  refine lv_iload_n hx hb dX1_worth_0 rfl (lv_at hl 1 rfl) ?_
  refine lv_if_eq (tgt := 27) hx hb dX1_worth_1 (by decide) (fun c_1 => ?_) (fun c_1 => ?_)
  · replace hf := if_t c_1 hf
    refine lv_iload_n hx hb dX1_worth_27 rfl (lv_at hl 2 rfl) ?_
    refine lv_if_eq (tgt := 41) hx hb dX1_worth_28 (by decide) (fun c_2 => ?_) (fun c_2 => ?_)
    · replace hf := if_t c_2 hf
      refine lv_aload_n hx hb dX1_worth_41 rfl (lv_at hl 0 rfl) ?_
      refine x_gF X K O 2 hk LC_1 rfl rfl in_X1 (by decide) q298 dX1_worth_42 ?_
      refine lv_iconst (v := 0) hx hb dX1_worth_45 (by decide) ?_
      refine x_ild X K O hk LC_4 (by decide) (j := 0) rfl dX1_worth_46 ?_
      exact x_iret X O rfl _ (Option.some.inj hf).symm rfl dX1_worth_47
    · replace hf := if_f c_2 hf
      refine lv_aload_n hx hb dX1_worth_31 rfl (lv_at hl 0 rfl) ?_
      refine x_gF X K O 2 hk LC_1 rfl rfl in_X1 (by decide) q298 dX1_worth_32 ?_
      refine lv_iconst (v := 2) hx hb dX1_worth_35 (by decide) ?_
      refine x_ild X K O hk LC_4 (by decide) (j := 2) rfl dX1_worth_36 ?_
      refine lv_ineg hx hb dX1_worth_37 ?_
      refine lv_goto (tgt := 47) hx hb dX1_worth_38 (by decide) ?_
      exact x_iret X O rfl _ (Option.some.inj hf).symm rfl dX1_worth_47
  · replace hf := if_f c_1 hf
    refine lv_iload_n hx hb dX1_worth_4 rfl (lv_at hl 2 rfl) ?_
    refine lv_if_eq (tgt := 18) hx hb dX1_worth_5 (by decide) (fun c_3 => ?_) (fun c_3 => ?_)
    · replace hf := if_t c_3 hf
      refine lv_aload_n hx hb dX1_worth_18 rfl (lv_at hl 0 rfl) ?_
      refine x_gF X K O 2 hk LC_1 rfl rfl in_X1 (by decide) q298 dX1_worth_19 ?_
      refine lv_iconst (v := 1) hx hb dX1_worth_22 (by decide) ?_
      refine x_ild X K O hk LC_4 (by decide) (j := 1) rfl dX1_worth_23 ?_
      refine lv_goto (tgt := 47) hx hb dX1_worth_24 (by decide) ?_
      exact x_iret X O rfl _ (Option.some.inj hf).symm rfl dX1_worth_47
    · replace hf := if_f c_3 hf
      refine lv_aload_n hx hb dX1_worth_8 rfl (lv_at hl 0 rfl) ?_
      refine x_gF X K O 2 hk LC_1 rfl rfl in_X1 (by decide) q298 dX1_worth_9 ?_
      refine lv_iconst (v := 3) hx hb dX1_worth_12 (by decide) ?_
      refine x_ild X K O hk LC_4 (by decide) (j := 3) rfl dX1_worth_13 ?_
      refine lv_ineg hx hb dX1_worth_14 ?_
      refine lv_goto (tgt := 47) hx hb dX1_worth_15 (by decide) ?_
      exact x_iret X O rfl _ (Option.some.inj hf).symm rfl dX1_worth_47
theorem hdV_X1_draw : yX1_draw.cls = RX1 ∧ (yX1_draw.cls ≠ "java/lang/invoke/MethodHandle" ∧ yX1_draw.cls ≠ "java/lang/invoke/VarHandle" ∧ (parseMethodDescriptor yX1_draw.desc).map (fun d => d.parameters.length) = some 1) := by decide +kernel
theorem hdV_X1_weights : yX1_weights.cls = RX1 ∧ (yX1_weights.cls ≠ "java/lang/invoke/MethodHandle" ∧ yX1_weights.cls ≠ "java/lang/invoke/VarHandle" ∧ (parseMethodDescriptor yX1_weights.desc).map (fun d => d.parameters.length) = some 0) := by decide +kernel
def C_X1_drawnSize_b11 (Δ : DT) (v : Nat) : Nat → ST → Int32 → Int32 → Option (ST × Int32)
  | 0, _, _, _ => none
  | n + 1, σ, x1, x2 =>
    ck (okI (10 + x2) 23) ((if x1 < (gI σ 4 v 0 (Int32.toNatClampNeg (10 + x2))) then some (σ, x2) else ck (okI (10 + x2) 23) (lt1 (x1 - (gI σ 4 v 0 (Int32.toNatClampNeg (10 + x2)))) (fun x1_4 => lt1 (x2 + 1) (fun x2_5 => (C_X1_drawnSize_b11 Δ v n) σ x1_4 x2_5)))))
theorem w_C_X1_drawnSize_b11 {Δ : DT} {v : Nat} (X : FX p m c meth s args RX1 cX1_drawnSize 3 (some .int)) (K : XK D d A s) {z : ST × Int32} (hk : okC Δ 1 v 0 = true) : ∀ (n : Nat) (σ : ST) (x1 : Int32) (x2 : Int32) (ls : Array Slot) (H : Heap) (locs : List Loc), XH D A s.heap (hC hs) (xct (LC Δ) (okC Δ) (hC hs) d σ) H locs → lv_has ls 3 [(0, .ref ((hC hs) 1 v 0)), (1, .int x1), (2, .int x2)] → C_X1_drawnSize_b11 Δ v n σ x1 x2 = some z → W p l e (rmD 1 0 0) s m args below meth c H locs 0 0 (MQ below (Qi D (pz z) (cw (hC hs) (LC Δ) (okC Δ) d) A) args s 0 0 A) (F0 m 11 ls []) := by
  have hx := X.1.1; have hb := X.1.2.1
  intro n
  induction n with
  | zero =>
    intro σ x1 x2 ls H locs O hl hf
    exact absurd hf (fun q => by cases q)
  | succ n ih =>
    intro σ x1 x2 ls H locs O hl hf
    rw [C_X1_drawnSize_b11] at hf
    refine lv_iload_n hx hb dX1_drawnSize_11 rfl (lv_at hl 1 rfl) ?_
    refine lv_aload_n hx hb dX1_drawnSize_12 rfl (lv_at hl 0 rfl) ?_
    refine x_gF X K O 2 hk LC_1 rfl rfl in_X1 (by decide) q298 dX1_drawnSize_13 ?_
    refine lv_bipush (v := 10) hx hb dX1_drawnSize_16 (by decide) ?_
    refine lv_iload_n hx hb dX1_drawnSize_18 rfl (lv_at hl 2 rfl) ?_
    refine lv_iadd hx hb dX1_drawnSize_19 ?_
    obtain ⟨c_1, hf⟩ := ck_s hf
    refine x_ild X K O hk LC_4 c_1 (j := (Int32.toNatClampNeg (10 + x2))) rfl dX1_drawnSize_20 ?_
    refine lv_icmp_lt (tgt := 42) hx hb dX1_drawnSize_21 (by decide) (fun c_2 => ?_) (fun c_2 => ?_)
    · replace hf := if_t c_2 hf
      refine lv_iload_n hx hb dX1_drawnSize_42 rfl (lv_at hl 2 rfl) ?_
      exact x_iret X O rfl _ (Option.some.inj hf).symm rfl dX1_drawnSize_43
    · replace hf := if_f c_2 hf
      refine lv_iload_n hx hb dX1_drawnSize_24 rfl (lv_at hl 1 rfl) ?_
      refine lv_aload_n hx hb dX1_drawnSize_25 rfl (lv_at hl 0 rfl) ?_
      refine x_gF X K O 2 hk LC_1 rfl rfl in_X1 (by decide) q298 dX1_drawnSize_26 ?_
      refine lv_bipush (v := 10) hx hb dX1_drawnSize_29 (by decide) ?_
      refine lv_iload_n hx hb dX1_drawnSize_31 rfl (lv_at hl 2 rfl) ?_
      refine lv_iadd hx hb dX1_drawnSize_32 ?_
      obtain ⟨c_3, hf⟩ := ck_s hf
      refine x_ild X K O hk LC_4 c_3 (j := (Int32.toNatClampNeg (10 + x2))) rfl dX1_drawnSize_33 ?_
      refine lv_isub hx hb dX1_drawnSize_34 ?_
      obtain ⟨x1_4, ex1_4, hf⟩ := lt1_s hf
      refine x_top (w := .int x1_4) (by rw [ex1_4]) ?_
      refine lv_istore_n (lv' := [(1, .int x1_4), (0, .ref ((hC hs) 1 v 0)), (2, .int x2)]) hx hb dX1_drawnSize_35 rfl hl (by decide) rfl (fun ls hl => ?_)
      obtain ⟨x2_5, ex2_5, hf⟩ := lt1_s hf
      refine lv_iinc (v := x2_5) (lv' := [(2, .int x2_5), (1, .int x1_4), (0, .ref ((hC hs) 1 v 0))]) hx hb dX1_drawnSize_36 hl (k := 2) rfl (by rw [ex2_5]; rfl) (by decide) rfl (fun ls hl => ?_)
      refine lv_goto (tgt := 11) hx hb dX1_drawnSize_39 (by decide) ?_
      exact ih _ _ _ ls _ _ O (lv_sub hl [2, 1, 0] rfl) hf
def C_X1_drawnSize (Δ : DT) (v : Nat) (σ : ST) : Option (ST × Int32) :=
  bn2 (C_X1_weights Δ v σ) (fun σ_1 r_2 => bn2 (C_X1_draw Δ v σ_1 r_2) (fun σ_3 r_4 => C_X1_drawnSize_b11 Δ v FUEL σ_3 r_4 1))
theorem m_C_X1_drawnSize {l : Launch} {D : va_G} {d : Nat → ClassId} {hs : IX} {Δ : DT} {v : Nat} {σ : ST} {z : ST × Int32} (hk : okC Δ 1 v 0 = true) (hf : C_X1_drawnSize Δ v σ = some z) : XM l D d EN yX1_drawnSize cX1_drawnSize 3 (some .int) 1 0 0 [.ref ((hC hs) 1 v 0)] (hC hs) (xct (LC Δ) (okC Δ) (hC hs) d σ) (Qi D (pz z) (cw (hC hs) (LC Δ) (okC Δ) d)) := by
  refine XM.of (by decide +kernel) (Nat.le_of_ble_eq_true rfl) ?_
  intro p e s m below meth c A ls X _ K _ O hl
  have hl : lv_has ls 3 [(0, .ref ((hC hs) 1 v 0))] := hl
  have hx := X.1.1; have hb := X.1.2.1
  rw [C_X1_drawnSize] at hf
  refine lv_aload_n hx hb dX1_drawnSize_0 rfl (lv_at hl 0 rfl) ?_
  refine lv_aload_n hx hb dX1_drawnSize_1 rfl (lv_at hl 0 rfl) ?_
  obtain ⟨σ_1, r_2, hg, hf⟩ := bn2_s hf
  refine x_calli (x_runV (As := []) (rest := [.ref ((hC hs) 1 v 0)]) X K O (xct_obj hk LC_1) rfl (m_C_X1_weights hk hg) EN_b EN_h (lw_V q924 q925 q926 q119 q927) 0 rfl hl.1 (Nat.le_of_ble_eq_true rfl) hdV_X1_weights ⟨by decide, by decide⟩ ⟨Nat.le_refl _, Nat.le_refl _⟩ dX1_drawnSize_2) (fun r u H locs hp O _ => ?_)
  cases hp
  have O : XH D A s.heap (hC hs) (xct (LC Δ) (okC Δ) (hC hs) d σ_1) H locs := O
  obtain ⟨σ_3, r_4, hg, hf⟩ := bn2_s hf
  refine x_calli (x_runV (As := [.int r_2]) (rest := []) X K O (xct_obj hk LC_1) rfl (m_C_X1_draw hk hg) EN_b EN_h (lw_V q897 q899 qs27 q119 q900) 1 rfl hl.1 (Nat.le_of_ble_eq_true rfl) hdV_X1_draw ⟨by decide, by decide⟩ ⟨Nat.le_refl _, Nat.le_refl _⟩ dX1_drawnSize_5) (fun r u H locs hp O _ => ?_)
  cases hp
  have O : XH D A s.heap (hC hs) (xct (LC Δ) (okC Δ) (hC hs) d σ_3) H locs := O
  refine lv_istore_n (lv' := [(1, .int r_4), (0, .ref ((hC hs) 1 v 0))]) hx hb dX1_drawnSize_8 rfl hl (by decide) rfl (fun ls hl => ?_)
  refine lv_iconst (v := 1) hx hb dX1_drawnSize_9 (by decide) ?_
  refine lv_istore_n (lv' := [(2, .int 1), (1, .int r_4), (0, .ref ((hC hs) 1 v 0))]) hx hb dX1_drawnSize_10 rfl hl (by decide) rfl (fun ls hl => ?_)
  exact w_C_X1_drawnSize_b11 X K hk _ _ _ _ ls _ _ O (lv_sub hl [2, 1, 0] rfl) hf
def C_X1_sum_b4 (Δ : DT) (v : Nat) : Nat → ST → Int32 → Int32 → Int32 → Option (ST × Int32)
  | 0, _, _, _, _ => none
  | n + 1, σ, x1, x2, x3 =>
    (if (gI σ 1 v 0 5) ≤ x3 then some (σ, x2) else ck (okI x3 12) (ck (okI x1 9) (lt1 (x2 + (gI σ 9 v (Int32.toNatClampNeg x3) (Int32.toNatClampNeg x1))) (fun x2_4 => lt1 (x3 + 1) (fun x3_5 => (C_X1_sum_b4 Δ v n) σ x1 x2_4 x3_5)))))
theorem w_C_X1_sum_b4 {Δ : DT} {v : Nat} (X : FX p m c meth s args RX1 cX1_sum 4 (some .int)) (K : XK D d A s) {z : ST × Int32} (hk : okC Δ 1 v 0 = true) : ∀ (n : Nat) (σ : ST) (x1 : Int32) (x2 : Int32) (x3 : Int32) (ls : Array Slot) (H : Heap) (locs : List Loc), XH D A s.heap (hC hs) (xct (LC Δ) (okC Δ) (hC hs) d σ) H locs → lv_has ls 4 [(0, .ref ((hC hs) 1 v 0)), (1, .int x1), (2, .int x2), (3, .int x3)] → C_X1_sum_b4 Δ v n σ x1 x2 x3 = some z → W p l e (rmD 0 0 0) s m args below meth c H locs 0 0 (MQ below (Qi D (pz z) (cw (hC hs) (LC Δ) (okC Δ) d) A) args s 0 0 A) (F0 m 4 ls []) := by
  have hx := X.1.1; have hb := X.1.2.1
  intro n
  induction n with
  | zero =>
    intro σ x1 x2 x3 ls H locs O hl hf
    exact absurd hf (fun q => by cases q)
  | succ n ih =>
    intro σ x1 x2 x3 ls H locs O hl hf
    rw [C_X1_sum_b4] at hf
    refine lv_iload_n hx hb dX1_sum_4 rfl (lv_at hl 3 rfl) ?_
    refine lv_aload_n hx hb dX1_sum_5 rfl (lv_at hl 0 rfl) ?_
    refine x_gI X K O 5 hk LC_1 rfl rfl in_X1 (by decide) q303 dX1_sum_6 ?_
    refine lv_icmp_ge (tgt := 32) hx hb dX1_sum_9 (by decide) (fun c_1 => ?_) (fun c_1 => ?_)
    · replace hf := if_t c_1 hf
      refine lv_iload_n hx hb dX1_sum_32 rfl (lv_at hl 2 rfl) ?_
      exact x_iret X O rfl _ (Option.some.inj hf).symm rfl dX1_sum_33
    · replace hf := if_f c_1 hf
      refine lv_iload_n hx hb dX1_sum_12 rfl (lv_at hl 2 rfl) ?_
      refine lv_aload_n hx hb dX1_sum_13 rfl (lv_at hl 0 rfl) ?_
      refine x_gF X K O 0 hk LC_1 rfl rfl in_X1 (by decide) q293 dX1_sum_14 ?_
      refine lv_iload_n hx hb dX1_sum_17 rfl (lv_at hl 3 rfl) ?_
      obtain ⟨c_2, hf⟩ := ck_s hf
      refine x_ald X K O 3 hk LC_5 (by decide) rfl rfl c_2 (j := (Int32.toNatClampNeg x3)) rfl dX1_sum_18 ?_
      refine x_gFN X K O 0 (oks_b hk (okI_lt c_2)) LC_8 rfl rfl in_X3 (by decide) q277 dX1_sum_19 ?_
      refine lv_iload_n hx hb dX1_sum_22 rfl (lv_at hl 1 rfl) ?_
      obtain ⟨c_3, hf⟩ := ck_s hf
      refine x_ild X K O (oks_b hk (okI_lt c_2)) LC_9 c_3 (j := (Int32.toNatClampNeg x1)) rfl dX1_sum_23 ?_
      refine lv_iadd hx hb dX1_sum_24 ?_
      obtain ⟨x2_4, ex2_4, hf⟩ := lt1_s hf
      refine x_top (w := .int x2_4) (by rw [ex2_4]) ?_
      refine lv_istore_n (lv' := [(2, .int x2_4), (0, .ref ((hC hs) 1 v 0)), (1, .int x1), (3, .int x3)]) hx hb dX1_sum_25 rfl hl (by decide) rfl (fun ls hl => ?_)
      obtain ⟨x3_5, ex3_5, hf⟩ := lt1_s hf
      refine lv_iinc (v := x3_5) (lv' := [(3, .int x3_5), (2, .int x2_4), (0, .ref ((hC hs) 1 v 0)), (1, .int x1)]) hx hb dX1_sum_26 hl (k := 3) rfl (by rw [ex3_5]; rfl) (by decide) rfl (fun ls hl => ?_)
      refine lv_goto (tgt := 4) hx hb dX1_sum_29 (by decide) ?_
      exact ih _ _ _ _ ls _ _ O (lv_sub hl [2, 3, 1, 0] rfl) hf
def C_X1_sum (Δ : DT) (v : Nat) (σ : ST) (p1 : Int32) : Option (ST × Int32) :=
  C_X1_sum_b4 Δ v FUEL σ p1 0 0
theorem m_C_X1_sum {l : Launch} {D : va_G} {d : Nat → ClassId} {hs : IX} {Δ : DT} {v : Nat} {p1 : Int32} {σ : ST} {z : ST × Int32} (hk : okC Δ 1 v 0 = true) (hf : C_X1_sum Δ v σ p1 = some z) : XM l D d EN yX1_sum cX1_sum 4 (some .int) 0 0 0 [.ref ((hC hs) 1 v 0), .int p1] (hC hs) (xct (LC Δ) (okC Δ) (hC hs) d σ) (Qi D (pz z) (cw (hC hs) (LC Δ) (okC Δ) d)) := by
  refine XM.of (by decide +kernel) (Nat.le_of_ble_eq_true rfl) ?_
  intro p e s m below meth c A ls X _ K _ O hl
  have hl : lv_has ls 4 [(0, .ref ((hC hs) 1 v 0)), (1, .int p1)] := hl
  have hx := X.1.1; have hb := X.1.2.1
  rw [C_X1_sum] at hf
  refine lv_iconst (v := 0) hx hb dX1_sum_0 (by decide) ?_
  refine lv_istore_n (lv' := [(2, .int 0), (0, .ref ((hC hs) 1 v 0)), (1, .int p1)]) hx hb dX1_sum_1 rfl hl (by decide) rfl (fun ls hl => ?_)
  refine lv_iconst (v := 0) hx hb dX1_sum_2 (by decide) ?_
  refine lv_istore_n (lv' := [(3, .int 0), (2, .int 0), (0, .ref ((hC hs) 1 v 0)), (1, .int p1)]) hx hb dX1_sum_3 rfl hl (by decide) rfl (fun ls hl => ?_)
  exact w_C_X1_sum_b4 X K hk _ _ _ _ _ ls _ _ O (lv_sub hl [2, 3, 1, 0] rfl) hf
theorem hdV_X4_did : yX4_did.cls = RX4 ∧ (yX4_did.cls ≠ "java/lang/invoke/MethodHandle" ∧ yX4_did.cls ≠ "java/lang/invoke/VarHandle" ∧ (parseMethodDescriptor yX4_did.desc).map (fun d => d.parameters.length) = some 1) := by decide +kernel
def C_X1_broken_b38 (Δ : DT) (v : Nat) (kb4 : ST → Int32 → Int32 → Option (ST × Int32)) (kb14 : ST → Int32 → Int32 → Int32 → Option (ST × Int32)) (σ : ST) (x2 : Int32) (x3 : Int32) (s0 : Int32) (s1 : Int32) : Option (ST × Int32) :=
  lt1 (s0 + s1) (fun x1_1 => lt1 (x3 + 1) (fun x3_2 => kb14 σ x1_1 x2 x3_2))
theorem w_C_X1_broken_b38 {Δ : DT} {v : Nat} (X : FX p m c meth s args RX1 cX1_broken 4 (some .int)) (K : XK D d A s) {z : ST × Int32} (hk : okC Δ 1 v 0 = true) {kb4 : ST → Int32 → Int32 → Option (ST × Int32)} (hkb4 : ∀ (σ : ST) (x1 : Int32) (x2 : Int32) (ls : Array Slot) (H : Heap) (locs : List Loc), XH D A s.heap (hC hs) (xct (LC Δ) (okC Δ) (hC hs) d σ) H locs → lv_has ls 4 [(0, .ref ((hC hs) 1 v 0)), (1, .int x1), (2, .int x2)] → kb4 σ x1 x2 = some z → W p l e (rmD 1 0 0) s m args below meth c H locs 0 0 (MQ below (Qi D (pz z) (cw (hC hs) (LC Δ) (okC Δ) d) A) args s 0 0 A) (F0 m 4 ls [])) {kb14 : ST → Int32 → Int32 → Int32 → Option (ST × Int32)} (hkb14 : ∀ (σ : ST) (x1 : Int32) (x2 : Int32) (x3 : Int32) (ls : Array Slot) (H : Heap) (locs : List Loc), XH D A s.heap (hC hs) (xct (LC Δ) (okC Δ) (hC hs) d σ) H locs → lv_has ls 4 [(0, .ref ((hC hs) 1 v 0)), (1, .int x1), (2, .int x2), (3, .int x3)] → kb14 σ x1 x2 x3 = some z → W p l e (rmD 1 0 0) s m args below meth c H locs 0 0 (MQ below (Qi D (pz z) (cw (hC hs) (LC Δ) (okC Δ) d) A) args s 0 0 A) (F0 m 14 ls [])) (σ : ST) (x2 : Int32) (x3 : Int32) (s0 : Int32) (s1 : Int32) (ls : Array Slot) (H : Heap) (locs : List Loc) (O : XH D A s.heap (hC hs) (xct (LC Δ) (okC Δ) (hC hs) d σ) H locs) (hl : lv_has ls 4 [(0, .ref ((hC hs) 1 v 0)), (2, .int x2), (3, .int x3)]) (hf : C_X1_broken_b38 Δ v kb4 kb14 σ x2 x3 s0 s1 = some z) : W p l e (rmD 1 0 0) s m args below meth c H locs 0 0 (MQ below (Qi D (pz z) (cw (hC hs) (LC Δ) (okC Δ) d) A) args s 0 0 A) (F0 m 38 ls [.int s1, .int s0]) := by
  have hx := X.1.1; have hb := X.1.2.1
  rw [C_X1_broken_b38] at hf
  refine lv_iadd hx hb dX1_broken_38 ?_
  obtain ⟨x1_1, ex1_1, hf⟩ := lt1_s hf
  refine x_top (w := .int x1_1) (by rw [ex1_1]) ?_
  refine lv_istore_n (lv' := [(1, .int x1_1), (0, .ref ((hC hs) 1 v 0)), (2, .int x2), (3, .int x3)]) hx hb dX1_broken_39 rfl hl (by decide) rfl (fun ls hl => ?_)
  obtain ⟨x3_2, ex3_2, hf⟩ := lt1_s hf
  refine lv_iinc (v := x3_2) (lv' := [(3, .int x3_2), (1, .int x1_1), (0, .ref ((hC hs) 1 v 0)), (2, .int x2)]) hx hb dX1_broken_40 hl (k := 3) rfl (by rw [ex3_2]; rfl) (by decide) rfl (fun ls hl => ?_)
  refine lv_goto (tgt := 14) hx hb dX1_broken_43 (by decide) ?_
  exact hkb14 _ _ _ _ ls _ _ O (lv_sub hl [2, 1, 3, 0] rfl) hf
def C_X1_broken_b14 (Δ : DT) (v : Nat) (kb4 : ST → Int32 → Int32 → Option (ST × Int32)) : Nat → ST → Int32 → Int32 → Int32 → Option (ST × Int32)
  | 0, _, _, _, _ => none
  | n + 1, σ, x1, x2, x3 =>
    (if 2 ≤ x3 then lt1 (x2 + 1) (fun x2_2 => kb4 σ x1 x2_2) else ck (okI x2 300) (bn2 (C_X4_did Δ v (Int32.toNatClampNeg x2) σ x3) (fun σ_4 r_5 => (if r_5 ≤ 0 then C_X1_broken_b38 Δ v kb4 (C_X1_broken_b14 Δ v kb4 n) σ_4 x2 x3 x1 0 else C_X1_broken_b38 Δ v kb4 (C_X1_broken_b14 Δ v kb4 n) σ_4 x2 x3 x1 1))))
theorem w_C_X1_broken_b14 {Δ : DT} {v : Nat} (X : FX p m c meth s args RX1 cX1_broken 4 (some .int)) (K : XK D d A s) {z : ST × Int32} (hk : okC Δ 1 v 0 = true) {kb4 : ST → Int32 → Int32 → Option (ST × Int32)} (hkb4 : ∀ (σ : ST) (x1 : Int32) (x2 : Int32) (ls : Array Slot) (H : Heap) (locs : List Loc), XH D A s.heap (hC hs) (xct (LC Δ) (okC Δ) (hC hs) d σ) H locs → lv_has ls 4 [(0, .ref ((hC hs) 1 v 0)), (1, .int x1), (2, .int x2)] → kb4 σ x1 x2 = some z → W p l e (rmD 1 0 0) s m args below meth c H locs 0 0 (MQ below (Qi D (pz z) (cw (hC hs) (LC Δ) (okC Δ) d) A) args s 0 0 A) (F0 m 4 ls [])) : ∀ (n : Nat) (σ : ST) (x1 : Int32) (x2 : Int32) (x3 : Int32) (ls : Array Slot) (H : Heap) (locs : List Loc), XH D A s.heap (hC hs) (xct (LC Δ) (okC Δ) (hC hs) d σ) H locs → lv_has ls 4 [(0, .ref ((hC hs) 1 v 0)), (1, .int x1), (2, .int x2), (3, .int x3)] → C_X1_broken_b14 Δ v kb4 n σ x1 x2 x3 = some z → W p l e (rmD 1 0 0) s m args below meth c H locs 0 0 (MQ below (Qi D (pz z) (cw (hC hs) (LC Δ) (okC Δ) d) A) args s 0 0 A) (F0 m 14 ls []) := by
  have hx := X.1.1; have hb := X.1.2.1
  intro n
  induction n with
  | zero =>
    intro σ x1 x2 x3 ls H locs O hl hf
    exact absurd hf (fun q => by cases q)
  | succ n ih =>
    intro σ x1 x2 x3 ls H locs O hl hf
    rw [C_X1_broken_b14] at hf
    refine lv_iload_n hx hb dX1_broken_14 rfl (lv_at hl 3 rfl) ?_
    refine lv_iconst (v := 2) hx hb dX1_broken_15 (by decide) ?_
    refine lv_icmp_ge (tgt := 46) hx hb dX1_broken_16 (by decide) (fun c_1 => ?_) (fun c_1 => ?_)
    · replace hf := if_t c_1 hf
      obtain ⟨x2_2, ex2_2, hf⟩ := lt1_s hf
      refine lv_iinc (v := x2_2) (lv' := [(2, .int x2_2), (0, .ref ((hC hs) 1 v 0)), (1, .int x1), (3, .int x3)]) hx hb dX1_broken_46 hl (k := 2) rfl (by rw [ex2_2]; rfl) (by decide) rfl (fun ls hl => ?_)
      refine lv_goto (tgt := 4) hx hb dX1_broken_49 (by decide) ?_
      exact hkb4 _ _ _ ls _ _ O (lv_sub hl [1, 2, 0] rfl) hf
    · replace hf := if_f c_1 hf
      refine lv_iload_n hx hb dX1_broken_19 rfl (lv_at hl 1 rfl) ?_
      refine lv_aload_n hx hb dX1_broken_20 rfl (lv_at hl 0 rfl) ?_
      refine x_gF X K O 1 hk LC_1 rfl rfl in_X1 (by decide) q296 dX1_broken_21 ?_
      refine lv_iload_n hx hb dX1_broken_24 rfl (lv_at hl 2 rfl) ?_
      obtain ⟨c_3, hf⟩ := ck_s hf
      refine x_ald X K O 4 hk LC_6 (by decide) rfl rfl c_3 (j := (Int32.toNatClampNeg x2)) rfl dX1_broken_25 ?_
      refine lv_iload_n hx hb dX1_broken_26 rfl (lv_at hl 3 rfl) ?_
      obtain ⟨σ_4, r_5, hg, hf⟩ := bn2_s hf
      refine x_calli (x_runV (As := [.int x3]) (rest := [.int x1]) X K O (xct_obj (oks_b hk (okI_lt c_3)) LC_10) rfl (m_C_X4_did (oks_b hk (okI_lt c_3)) hg) EN_b EN_h (lw_V q1119 q1063 q1064 q122 q1065) 1 rfl hl.1 (Nat.le_of_ble_eq_true rfl) hdV_X4_did ⟨by decide, by decide⟩ ⟨Nat.le_refl _, Nat.le_refl _⟩ dX1_broken_27) (fun r u H locs hp O _ => ?_)
      cases hp
      have O : XH D A s.heap (hC hs) (xct (LC Δ) (okC Δ) (hC hs) d σ_4) H locs := O
      refine lv_if_le (tgt := 37) hx hb dX1_broken_30 (by decide) (fun c_6 => ?_) (fun c_6 => ?_)
      · replace hf := if_t c_6 hf
        refine lv_iconst (v := 0) hx hb dX1_broken_37 (by decide) ?_
        exact w_C_X1_broken_b38 X K hk hkb4 ih _ _ _ _ _ ls _ _ O (lv_sub hl [0, 2, 3] rfl) hf
      · replace hf := if_f c_6 hf
        refine lv_iconst (v := 1) hx hb dX1_broken_33 (by decide) ?_
        refine lv_goto (tgt := 38) hx hb dX1_broken_34 (by decide) ?_
        exact w_C_X1_broken_b38 X K hk hkb4 ih _ _ _ _ _ ls _ _ O (lv_sub hl [0, 2, 3] rfl) hf
def C_X1_broken_b4 (Δ : DT) (v : Nat) : Nat → ST → Int32 → Int32 → Option (ST × Int32)
  | 0, _, _, _ => none
  | n + 1, σ, x1, x2 =>
    (if (gI σ 1 v 0 6) ≤ x2 then some (σ, x1) else C_X1_broken_b14 Δ v (C_X1_broken_b4 Δ v n) FUEL σ x1 x2 0)
theorem w_C_X1_broken_b4 {Δ : DT} {v : Nat} (X : FX p m c meth s args RX1 cX1_broken 4 (some .int)) (K : XK D d A s) {z : ST × Int32} (hk : okC Δ 1 v 0 = true) : ∀ (n : Nat) (σ : ST) (x1 : Int32) (x2 : Int32) (ls : Array Slot) (H : Heap) (locs : List Loc), XH D A s.heap (hC hs) (xct (LC Δ) (okC Δ) (hC hs) d σ) H locs → lv_has ls 4 [(0, .ref ((hC hs) 1 v 0)), (1, .int x1), (2, .int x2)] → C_X1_broken_b4 Δ v n σ x1 x2 = some z → W p l e (rmD 1 0 0) s m args below meth c H locs 0 0 (MQ below (Qi D (pz z) (cw (hC hs) (LC Δ) (okC Δ) d) A) args s 0 0 A) (F0 m 4 ls []) := by
  have hx := X.1.1; have hb := X.1.2.1
  intro n
  induction n with
  | zero =>
    intro σ x1 x2 ls H locs O hl hf
    exact absurd hf (fun q => by cases q)
  | succ n ih =>
    intro σ x1 x2 ls H locs O hl hf
    rw [C_X1_broken_b4] at hf
    refine lv_iload_n hx hb dX1_broken_4 rfl (lv_at hl 2 rfl) ?_
    refine lv_aload_n hx hb dX1_broken_5 rfl (lv_at hl 0 rfl) ?_
    refine x_gI X K O 6 hk LC_1 rfl rfl in_X1 (by decide) q305 dX1_broken_6 ?_
    refine lv_icmp_ge (tgt := 52) hx hb dX1_broken_9 (by decide) (fun c_1 => ?_) (fun c_1 => ?_)
    · replace hf := if_t c_1 hf
      refine lv_iload_n hx hb dX1_broken_52 rfl (lv_at hl 1 rfl) ?_
      exact x_iret X O rfl _ (Option.some.inj hf).symm rfl dX1_broken_53
    · replace hf := if_f c_1 hf
      refine lv_iconst (v := 0) hx hb dX1_broken_12 (by decide) ?_
      refine lv_istore_n (lv' := [(3, .int 0), (0, .ref ((hC hs) 1 v 0)), (1, .int x1), (2, .int x2)]) hx hb dX1_broken_13 rfl hl (by decide) rfl (fun ls hl => ?_)
      exact w_C_X1_broken_b14 X K hk ih _ _ _ _ _ ls _ _ O (lv_sub hl [1, 2, 3, 0] rfl) hf
def C_X1_broken (Δ : DT) (v : Nat) (σ : ST) : Option (ST × Int32) :=
  C_X1_broken_b4 Δ v FUEL σ 0 0
theorem m_C_X1_broken {l : Launch} {D : va_G} {d : Nat → ClassId} {hs : IX} {Δ : DT} {v : Nat} {σ : ST} {z : ST × Int32} (hk : okC Δ 1 v 0 = true) (hf : C_X1_broken Δ v σ = some z) : XM l D d EN yX1_broken cX1_broken 4 (some .int) 1 0 0 [.ref ((hC hs) 1 v 0)] (hC hs) (xct (LC Δ) (okC Δ) (hC hs) d σ) (Qi D (pz z) (cw (hC hs) (LC Δ) (okC Δ) d)) := by
  refine XM.of (by decide +kernel) (Nat.le_of_ble_eq_true rfl) ?_
  intro p e s m below meth c A ls X _ K _ O hl
  have hl : lv_has ls 4 [(0, .ref ((hC hs) 1 v 0))] := hl
  have hx := X.1.1; have hb := X.1.2.1
  rw [C_X1_broken] at hf
  refine lv_iconst (v := 0) hx hb dX1_broken_0 (by decide) ?_
  refine lv_istore_n (lv' := [(1, .int 0), (0, .ref ((hC hs) 1 v 0))]) hx hb dX1_broken_1 rfl hl (by decide) rfl (fun ls hl => ?_)
  refine lv_iconst (v := 0) hx hb dX1_broken_2 (by decide) ?_
  refine lv_istore_n (lv' := [(2, .int 0), (1, .int 0), (0, .ref ((hC hs) 1 v 0))]) hx hb dX1_broken_3 rfl hl (by decide) rfl (fun ls hl => ?_)
  exact w_C_X1_broken_b4 X K hk _ _ _ _ ls _ _ O (lv_sub hl [2, 1, 0] rfl) hf
theorem hdV_X3_takes : yX3_takes.cls = RX3 ∧ (yX3_takes.cls ≠ "java/lang/invoke/MethodHandle" ∧ yX3_takes.cls ≠ "java/lang/invoke/VarHandle" ∧ (parseMethodDescriptor yX3_takes.desc).map (fun d => d.parameters.length) = some 1) := by decide +kernel
theorem hdV_X4_takes : yX4_takes.cls = RX4 ∧ (yX4_takes.cls ≠ "java/lang/invoke/MethodHandle" ∧ yX4_takes.cls ≠ "java/lang/invoke/VarHandle" ∧ (parseMethodDescriptor yX4_takes.desc).map (fun d => d.parameters.length) = some 1) := by decide +kernel
def C_X1_takes_b94 (Δ : DT) (v : Nat) (p1a : Nat) : Nat → ST → Int32 → Option (ST)
  | 0, _, _ => none
  | n + 1, σ, x2 =>
    (if 23 ≤ x2 then some σ else ck (okI x2 23) (ck (okI x2 23) (lt1 (sI σ 4 v 0 (Int32.toNatClampNeg x2) (gI σ 4 p1a 0 (Int32.toNatClampNeg x2))) (fun σ_4 => lt1 (x2 + 1) (fun x2_5 => (C_X1_takes_b94 Δ v p1a n) σ_4 x2_5)))))
theorem w_C_X1_takes_b94 {Δ : DT} {v : Nat} {p1a : Nat} (X : FX p m c meth s args RX1 cX1_takes 3 (some (.object "NotchSticks$Valley"))) (K : XK D d A s) {z : ST} (hk : okC Δ 1 v 0 = true) (hp1 : okC Δ 1 p1a 0 = true) : ∀ (n : Nat) (σ : ST) (x2 : Int32) (kx1 : (okC Δ) 1 p1a 0 = true) (ls : Array Slot) (H : Heap) (locs : List Loc), XH D A s.heap (hC hs) (xct (LC Δ) (okC Δ) (hC hs) d σ) H locs → lv_has ls 3 [(0, .ref ((hC hs) 1 v 0)), (1, .ref ((hC hs) 1 p1a 0)), (2, .int x2)] → C_X1_takes_b94 Δ v p1a n σ x2 = some z → W p l e (rmD 1 0 0) s m args below meth c H locs 0 0 (MQ below (Qr D (fun r u => r = hC hs 1 v 0 ∧ z = u) (cw (hC hs) (LC Δ) (okC Δ) d) A) args s 0 0 A) (F0 m 94 ls []) := by
  have hx := X.1.1; have hb := X.1.2.1
  intro n
  induction n with
  | zero =>
    intro σ x2 kx1 ls H locs O hl hf
    exact absurd hf (fun q => by cases q)
  | succ n ih =>
    intro σ x2 kx1 ls H locs O hl hf
    rw [C_X1_takes_b94] at hf
    refine lv_iload_n hx hb dX1_takes_94 rfl (lv_at hl 2 rfl) ?_
    refine lv_aload_n hx hb dX1_takes_95 rfl (lv_at hl 0 rfl) ?_
    refine x_gF X K O 2 hk LC_1 rfl rfl in_X1 (by decide) q298 dX1_takes_96 ?_
    refine x_len (v := 23) X K O 0 hk LC_4 rfl (by decide) dX1_takes_99 ?_
    refine lv_icmp_ge (tgt := 121) hx hb dX1_takes_100 (by decide) (fun c_1 => ?_) (fun c_1 => ?_)
    · replace hf := if_t c_1 hf
      refine lv_aload_n hx hb dX1_takes_121 rfl (lv_at hl 0 rfl) ?_
      exact x_aret X O rfl (Or.inl ⟨_, rfl⟩) _ ⟨rfl, (Option.some.inj hf).symm⟩ rfl dX1_takes_122
    · replace hf := if_f c_1 hf
      refine lv_aload_n hx hb dX1_takes_103 rfl (lv_at hl 0 rfl) ?_
      refine x_gF X K O 2 hk LC_1 rfl rfl in_X1 (by decide) q298 dX1_takes_104 ?_
      refine lv_iload_n hx hb dX1_takes_107 rfl (lv_at hl 2 rfl) ?_
      refine lv_aload_n hx hb dX1_takes_108 rfl (lv_at hl 1 rfl) ?_
      refine x_gF X K O 2 kx1 LC_1 rfl rfl in_X1 (by decide) q298 dX1_takes_109 ?_
      refine lv_iload_n hx hb dX1_takes_112 rfl (lv_at hl 2 rfl) ?_
      obtain ⟨c_2, hf⟩ := ck_s hf
      refine x_ild X K O kx1 LC_4 c_2 (j := (Int32.toNatClampNeg x2)) rfl dX1_takes_113 ?_
      obtain ⟨c_3, hf⟩ := ck_s hf
      obtain ⟨σ_4, eσ_4, hf⟩ := lt1_s hf
      refine x_ist X K O hk LC_4 c_3 (j := (Int32.toNatClampNeg x2)) rfl dX1_takes_114 (fun H locs O => ?_)
      rw [← eσ_4] at O
      obtain ⟨x2_5, ex2_5, hf⟩ := lt1_s hf
      refine lv_iinc (v := x2_5) (lv' := [(2, .int x2_5), (0, .ref ((hC hs) 1 v 0)), (1, .ref ((hC hs) 1 p1a 0))]) hx hb dX1_takes_115 hl (k := 2) rfl (by rw [ex2_5]; rfl) (by decide) rfl (fun ls hl => ?_)
      refine lv_goto (tgt := 94) hx hb dX1_takes_118 (by decide) ?_
      exact ih _ _ kx1 ls _ _ O (lv_sub hl [1, 2, 0] rfl) hf
def C_X1_takes_b63 (Δ : DT) (v : Nat) (p1a : Nat) : Nat → ST → Int32 → Option (ST)
  | 0, _, _ => none
  | n + 1, σ, x2 =>
    (if (gI σ 1 v 0 6) ≤ x2 then C_X1_takes_b94 Δ v p1a FUEL σ 0 else ck (okI x2 300) (ck (okI x2 300) (bn1 (C_X4_takes Δ v (Int32.toNatClampNeg x2) p1a (Int32.toNatClampNeg x2) σ) (fun σ_4 => lt1 (x2 + 1) (fun x2_5 => (C_X1_takes_b63 Δ v p1a n) σ_4 x2_5)))))
theorem w_C_X1_takes_b63 {Δ : DT} {v : Nat} {p1a : Nat} (X : FX p m c meth s args RX1 cX1_takes 3 (some (.object "NotchSticks$Valley"))) (K : XK D d A s) {z : ST} (hk : okC Δ 1 v 0 = true) (hp1 : okC Δ 1 p1a 0 = true) : ∀ (n : Nat) (σ : ST) (x2 : Int32) (kx1 : (okC Δ) 1 p1a 0 = true) (ls : Array Slot) (H : Heap) (locs : List Loc), XH D A s.heap (hC hs) (xct (LC Δ) (okC Δ) (hC hs) d σ) H locs → lv_has ls 3 [(0, .ref ((hC hs) 1 v 0)), (1, .ref ((hC hs) 1 p1a 0)), (2, .int x2)] → C_X1_takes_b63 Δ v p1a n σ x2 = some z → W p l e (rmD 1 0 0) s m args below meth c H locs 0 0 (MQ below (Qr D (fun r u => r = hC hs 1 v 0 ∧ z = u) (cw (hC hs) (LC Δ) (okC Δ) d) A) args s 0 0 A) (F0 m 63 ls []) := by
  have hx := X.1.1; have hb := X.1.2.1
  intro n
  induction n with
  | zero =>
    intro σ x2 kx1 ls H locs O hl hf
    exact absurd hf (fun q => by cases q)
  | succ n ih =>
    intro σ x2 kx1 ls H locs O hl hf
    rw [C_X1_takes_b63] at hf
    refine lv_iload_n hx hb dX1_takes_63 rfl (lv_at hl 2 rfl) ?_
    refine lv_aload_n hx hb dX1_takes_64 rfl (lv_at hl 0 rfl) ?_
    refine x_gI X K O 6 hk LC_1 rfl rfl in_X1 (by decide) q305 dX1_takes_65 ?_
    refine lv_icmp_ge (tgt := 92) hx hb dX1_takes_68 (by decide) (fun c_1 => ?_) (fun c_1 => ?_)
    · replace hf := if_t c_1 hf
      refine lv_iconst (v := 0) hx hb dX1_takes_92 (by decide) ?_
      refine lv_istore_n (lv' := [(2, .int 0), (0, .ref ((hC hs) 1 v 0)), (1, .ref ((hC hs) 1 p1a 0))]) hx hb dX1_takes_93 rfl hl (by decide) rfl (fun ls hl => ?_)
      exact w_C_X1_takes_b94 X K hk hp1 _ _ _ kx1 ls _ _ O (lv_sub hl [1, 2, 0] rfl) hf
    · replace hf := if_f c_1 hf
      refine lv_aload_n hx hb dX1_takes_71 rfl (lv_at hl 0 rfl) ?_
      refine x_gF X K O 1 hk LC_1 rfl rfl in_X1 (by decide) q296 dX1_takes_72 ?_
      refine lv_iload_n hx hb dX1_takes_75 rfl (lv_at hl 2 rfl) ?_
      obtain ⟨c_2, hf⟩ := ck_s hf
      refine x_ald X K O 4 hk LC_6 (by decide) rfl rfl c_2 (j := (Int32.toNatClampNeg x2)) rfl dX1_takes_76 ?_
      refine lv_aload_n hx hb dX1_takes_77 rfl (lv_at hl 1 rfl) ?_
      refine x_gF X K O 1 kx1 LC_1 rfl rfl in_X1 (by decide) q296 dX1_takes_78 ?_
      refine lv_iload_n hx hb dX1_takes_81 rfl (lv_at hl 2 rfl) ?_
      obtain ⟨c_3, hf⟩ := ck_s hf
      refine x_ald X K O 4 kx1 LC_6 (by decide) rfl rfl c_3 (j := (Int32.toNatClampNeg x2)) rfl dX1_takes_82 ?_
      obtain ⟨σ_4, hg, hf⟩ := bn1_s hf
      refine x_callv (x_runV (As := [.ref ((hC hs) 10 p1a (Int32.toNatClampNeg x2))]) (rest := []) X K O (xct_obj (oks_b hk (okI_lt c_2)) LC_10) rfl (m_C_X4_takes (oks_b hk (okI_lt c_2)) (oks_b kx1 (okI_lt c_3)) hg) EN_b EN_h (lw_V q1107 q1108 q1109 q122 q1110) 1 rfl hl.1 (Nat.le_of_ble_eq_true rfl) hdV_X4_takes ⟨by decide, by decide⟩ ⟨Nat.le_refl _, Nat.le_refl _⟩ dX1_takes_83) (fun u H locs hp O _ => ?_)
      cases hp
      have O : XH D A s.heap (hC hs) (xct (LC Δ) (okC Δ) (hC hs) d σ_4) H locs := O
      obtain ⟨x2_5, ex2_5, hf⟩ := lt1_s hf
      refine lv_iinc (v := x2_5) (lv' := [(2, .int x2_5), (0, .ref ((hC hs) 1 v 0)), (1, .ref ((hC hs) 1 p1a 0))]) hx hb dX1_takes_86 hl (k := 2) rfl (by rw [ex2_5]; rfl) (by decide) rfl (fun ls hl => ?_)
      refine lv_goto (tgt := 63) hx hb dX1_takes_89 (by decide) ?_
      exact ih _ _ kx1 ls _ _ O (lv_sub hl [1, 2, 0] rfl) hf
def C_X1_takes_b34 (Δ : DT) (v : Nat) (p1a : Nat) : Nat → ST → Int32 → Option (ST)
  | 0, _, _ => none
  | n + 1, σ, x2 =>
    (if 12 ≤ x2 then C_X1_takes_b63 Δ v p1a FUEL σ 0 else ck (okI x2 12) (ck (okI x2 12) (bn1 (C_X3_takes Δ v (Int32.toNatClampNeg x2) p1a (Int32.toNatClampNeg x2) σ) (fun σ_4 => lt1 (x2 + 1) (fun x2_5 => (C_X1_takes_b34 Δ v p1a n) σ_4 x2_5)))))
theorem w_C_X1_takes_b34 {Δ : DT} {v : Nat} {p1a : Nat} (X : FX p m c meth s args RX1 cX1_takes 3 (some (.object "NotchSticks$Valley"))) (K : XK D d A s) {z : ST} (hk : okC Δ 1 v 0 = true) (hp1 : okC Δ 1 p1a 0 = true) : ∀ (n : Nat) (σ : ST) (x2 : Int32) (kx1 : (okC Δ) 1 p1a 0 = true) (ls : Array Slot) (H : Heap) (locs : List Loc), XH D A s.heap (hC hs) (xct (LC Δ) (okC Δ) (hC hs) d σ) H locs → lv_has ls 3 [(0, .ref ((hC hs) 1 v 0)), (1, .ref ((hC hs) 1 p1a 0)), (2, .int x2)] → C_X1_takes_b34 Δ v p1a n σ x2 = some z → W p l e (rmD 1 0 0) s m args below meth c H locs 0 0 (MQ below (Qr D (fun r u => r = hC hs 1 v 0 ∧ z = u) (cw (hC hs) (LC Δ) (okC Δ) d) A) args s 0 0 A) (F0 m 34 ls []) := by
  have hx := X.1.1; have hb := X.1.2.1
  intro n
  induction n with
  | zero =>
    intro σ x2 kx1 ls H locs O hl hf
    exact absurd hf (fun q => by cases q)
  | succ n ih =>
    intro σ x2 kx1 ls H locs O hl hf
    rw [C_X1_takes_b34] at hf
    refine lv_iload_n hx hb dX1_takes_34 rfl (lv_at hl 2 rfl) ?_
    refine lv_bipush (v := 12) hx hb dX1_takes_35 (by decide) ?_
    refine lv_icmp_ge (tgt := 61) hx hb dX1_takes_37 (by decide) (fun c_1 => ?_) (fun c_1 => ?_)
    · replace hf := if_t c_1 hf
      refine lv_iconst (v := 0) hx hb dX1_takes_61 (by decide) ?_
      refine lv_istore_n (lv' := [(2, .int 0), (0, .ref ((hC hs) 1 v 0)), (1, .ref ((hC hs) 1 p1a 0))]) hx hb dX1_takes_62 rfl hl (by decide) rfl (fun ls hl => ?_)
      exact w_C_X1_takes_b63 X K hk hp1 _ _ _ kx1 ls _ _ O (lv_sub hl [1, 2, 0] rfl) hf
    · replace hf := if_f c_1 hf
      refine lv_aload_n hx hb dX1_takes_40 rfl (lv_at hl 0 rfl) ?_
      refine x_gF X K O 0 hk LC_1 rfl rfl in_X1 (by decide) q293 dX1_takes_41 ?_
      refine lv_iload_n hx hb dX1_takes_44 rfl (lv_at hl 2 rfl) ?_
      obtain ⟨c_2, hf⟩ := ck_s hf
      refine x_ald X K O 3 hk LC_5 (by decide) rfl rfl c_2 (j := (Int32.toNatClampNeg x2)) rfl dX1_takes_45 ?_
      refine lv_aload_n hx hb dX1_takes_46 rfl (lv_at hl 1 rfl) ?_
      refine x_gF X K O 0 kx1 LC_1 rfl rfl in_X1 (by decide) q293 dX1_takes_47 ?_
      refine lv_iload_n hx hb dX1_takes_50 rfl (lv_at hl 2 rfl) ?_
      obtain ⟨c_3, hf⟩ := ck_s hf
      refine x_ald X K O 3 kx1 LC_5 (by decide) rfl rfl c_3 (j := (Int32.toNatClampNeg x2)) rfl dX1_takes_51 ?_
      obtain ⟨σ_4, hg, hf⟩ := bn1_s hf
      refine x_callv (x_runV (As := [.ref ((hC hs) 8 p1a (Int32.toNatClampNeg x2))]) (rest := []) X K O (xct_obj (oks_b hk (okI_lt c_2)) LC_8) rfl (m_C_X3_takes (oks_b hk (okI_lt c_2)) (oks_b kx1 (okI_lt c_3)) hg) EN_b EN_h (lw_V q1103 q1104 q1105 q121 q1106) 1 rfl hl.1 (Nat.le_of_ble_eq_true rfl) hdV_X3_takes ⟨by decide, by decide⟩ ⟨Nat.le_refl _, Nat.le_refl _⟩ dX1_takes_52) (fun u H locs hp O _ => ?_)
      cases hp
      have O : XH D A s.heap (hC hs) (xct (LC Δ) (okC Δ) (hC hs) d σ_4) H locs := O
      obtain ⟨x2_5, ex2_5, hf⟩ := lt1_s hf
      refine lv_iinc (v := x2_5) (lv' := [(2, .int x2_5), (0, .ref ((hC hs) 1 v 0)), (1, .ref ((hC hs) 1 p1a 0))]) hx hb dX1_takes_55 hl (k := 2) rfl (by rw [ex2_5]; rfl) (by decide) rfl (fun ls hl => ?_)
      refine lv_goto (tgt := 34) hx hb dX1_takes_58 (by decide) ?_
      exact ih _ _ kx1 ls _ _ O (lv_sub hl [1, 2, 0] rfl) hf
def C_X1_takes (Δ : DT) (v : Nat) (p1a : Nat) (σ : ST) : Option (ST) :=
  lt1 (sI σ 1 v 0 5 (gI σ 1 p1a 0 5)) (fun σ_1 => lt1 (sI σ_1 1 v 0 6 (gI σ_1 1 p1a 0 6)) (fun σ_2 => lt1 (sI σ_2 1 v 0 7 (gI σ_2 1 p1a 0 7)) (fun σ_3 => lt1 (sI σ_3 1 v 0 8 (gI σ_3 1 p1a 0 8)) (fun σ_4 => C_X1_takes_b34 Δ v p1a FUEL σ_4 0))))
theorem m_C_X1_takes {l : Launch} {D : va_G} {d : Nat → ClassId} {hs : IX} {Δ : DT} {v : Nat} {p1a : Nat} {σ : ST} {z : ST} (hk : okC Δ 1 v 0 = true) (hp1 : okC Δ 1 p1a 0 = true) (hf : C_X1_takes Δ v p1a σ = some z) : XM l D d EN yX1_takes cX1_takes 3 (some (.object "NotchSticks$Valley")) 1 0 0 [.ref ((hC hs) 1 v 0), .ref ((hC hs) 1 p1a 0)] (hC hs) (xct (LC Δ) (okC Δ) (hC hs) d σ) (Qr D (fun r u => r = hC hs 1 v 0 ∧ z = u) (cw (hC hs) (LC Δ) (okC Δ) d)) := by
  refine XM.of (by decide +kernel) (Nat.le_of_ble_eq_true rfl) ?_
  intro p e s m below meth c A ls X _ K _ O hl
  have hl : lv_has ls 3 [(0, .ref ((hC hs) 1 v 0)), (1, .ref ((hC hs) 1 p1a 0))] := hl
  have hx := X.1.1; have hb := X.1.2.1
  rw [C_X1_takes] at hf
  refine lv_aload_n hx hb dX1_takes_0 rfl (lv_at hl 0 rfl) ?_
  refine lv_aload_n hx hb dX1_takes_1 rfl (lv_at hl 1 rfl) ?_
  refine x_gI X K O 5 hp1 LC_1 rfl rfl in_X1 (by decide) q303 dX1_takes_2 ?_
  obtain ⟨σ_1, eσ_1, hf⟩ := lt1_s hf
  refine x_pI X K O 5 hk LC_1 rfl rfl in_X1 tyX1_ok nmX1 (by decide) q303 rfl rfl rfl dX1_takes_5 (fun H locs O => ?_)
  rw [← eσ_1] at O
  refine lv_aload_n hx hb dX1_takes_8 rfl (lv_at hl 0 rfl) ?_
  refine lv_aload_n hx hb dX1_takes_9 rfl (lv_at hl 1 rfl) ?_
  refine x_gI X K O 6 hp1 LC_1 rfl rfl in_X1 (by decide) q305 dX1_takes_10 ?_
  obtain ⟨σ_2, eσ_2, hf⟩ := lt1_s hf
  refine x_pI X K O 6 hk LC_1 rfl rfl in_X1 tyX1_ok nmX1 (by decide) q305 rfl rfl rfl dX1_takes_13 (fun H locs O => ?_)
  rw [← eσ_2] at O
  refine lv_aload_n hx hb dX1_takes_16 rfl (lv_at hl 0 rfl) ?_
  refine lv_aload_n hx hb dX1_takes_17 rfl (lv_at hl 1 rfl) ?_
  refine x_gI X K O 7 hp1 LC_1 rfl rfl in_X1 (by decide) q307 dX1_takes_18 ?_
  obtain ⟨σ_3, eσ_3, hf⟩ := lt1_s hf
  refine x_pI X K O 7 hk LC_1 rfl rfl in_X1 tyX1_ok nmX1 (by decide) q307 rfl rfl rfl dX1_takes_21 (fun H locs O => ?_)
  rw [← eσ_3] at O
  refine lv_aload_n hx hb dX1_takes_24 rfl (lv_at hl 0 rfl) ?_
  refine lv_aload_n hx hb dX1_takes_25 rfl (lv_at hl 1 rfl) ?_
  refine x_gI X K O 8 hp1 LC_1 rfl rfl in_X1 (by decide) q310 dX1_takes_26 ?_
  obtain ⟨σ_4, eσ_4, hf⟩ := lt1_s hf
  refine x_pI X K O 8 hk LC_1 rfl rfl in_X1 tyX1_ok nmX1 (by decide) q310 rfl rfl rfl dX1_takes_29 (fun H locs O => ?_)
  rw [← eσ_4] at O
  refine lv_iconst (v := 0) hx hb dX1_takes_32 (by decide) ?_
  refine lv_istore_n (lv' := [(2, .int 0), (0, .ref ((hC hs) 1 v 0)), (1, .ref ((hC hs) 1 p1a 0))]) hx hb dX1_takes_33 rfl hl (by decide) rfl (fun ls hl => ?_)
  exact w_C_X1_takes_b34 X K hk hp1 _ _ _ hp1 ls _ _ O (lv_sub hl [1, 2, 0] rfl) hf
def C_X2_of (Δ : DT) (v : Nat) (w : Nat) (p1a : Nat) (σ : ST) (p2 : Int32) (p3 : Int32) (p4 : Int32) : Option (ST) :=
  lt1 (sR σ 2 v w 0 (p1a + 1)) (fun σ_1 => lt1 (sI σ_1 2 v w 1 p2) (fun σ_2 => lt1 (sI σ_2 2 v w 2 p3) (fun σ_3 => lt1 (sI σ_3 2 v w 3 p4) (fun σ_4 => some σ_4))))
theorem m_C_X2_of {l : Launch} {D : va_G} {d : Nat → ClassId} {hs : IX} {Δ : DT} {v : Nat} {w : Nat} {p1a : Nat} {p2 : Int32} {p3 : Int32} {p4 : Int32} {σ : ST} {z : ST} (hk : okC Δ 2 v w = true) (hp1 : okC Δ 1 p1a 0 = true) (hf : C_X2_of Δ v w p1a σ p2 p3 p4 = some z) : XM l D d EN yX2_of cX2_of 5 (some (.object "NotchSticks$Case")) 0 0 0 [.ref ((hC hs) 2 v w), .ref ((hC hs) 1 p1a 0), .int p2, .int p3, .int p4] (hC hs) (xct (LC Δ) (okC Δ) (hC hs) d σ) (Qr D (fun r u => r = hC hs 2 v w ∧ z = u) (cw (hC hs) (LC Δ) (okC Δ) d)) := by
  refine XM.of (by decide +kernel) (Nat.le_of_ble_eq_true rfl) ?_
  intro p e s m below meth c A ls X _ K _ O hl
  have hl : lv_has ls 5 [(0, .ref ((hC hs) 2 v w)), (1, .ref ((hC hs) 1 p1a 0)), (2, .int p2), (3, .int p3), (4, .int p4)] := hl
  have hx := X.1.1; have hb := X.1.2.1
  rw [C_X2_of] at hf
  refine lv_aload_n hx hb dX2_of_0 rfl (lv_at hl 0 rfl) ?_
  refine lv_aload_n hx hb dX2_of_1 rfl (lv_at hl 1 rfl) ?_
  obtain ⟨σ_1, eσ_1, hf⟩ := lt1_s hf
  refine x_pQ X K O 0 hk LC_2 rfl rfl in_X2 tyX2_ok nmX2 (by decide) q253 rfl rfl rfl dX2_of_2 (fun H locs O => ?_)
  rw [← eσ_1] at O
  refine lv_aload_n hx hb dX2_of_5 rfl (lv_at hl 0 rfl) ?_
  refine lv_iload_n hx hb dX2_of_6 rfl (lv_at hl 2 rfl) ?_
  obtain ⟨σ_2, eσ_2, hf⟩ := lt1_s hf
  refine x_pI X K O 1 hk LC_2 rfl rfl in_X2 tyX2_ok nmX2 (by decide) q254 rfl rfl rfl dX2_of_7 (fun H locs O => ?_)
  rw [← eσ_2] at O
  refine lv_aload_n hx hb dX2_of_10 rfl (lv_at hl 0 rfl) ?_
  refine lv_iload_n hx hb dX2_of_11 rfl (lv_at hl 3 rfl) ?_
  obtain ⟨σ_3, eσ_3, hf⟩ := lt1_s hf
  refine x_pI X K O 2 hk LC_2 rfl rfl in_X2 tyX2_ok nmX2 (by decide) q255 rfl rfl rfl dX2_of_12 (fun H locs O => ?_)
  rw [← eσ_3] at O
  refine lv_aload_n hx hb dX2_of_15 rfl (lv_at hl 0 rfl) ?_
  refine lv_iload hx hb dX2_of_16 (lv_at hl 4 rfl) ?_
  obtain ⟨σ_4, eσ_4, hf⟩ := lt1_s hf
  refine x_pI X K O 3 hk LC_2 rfl rfl in_X2 tyX2_ok nmX2 (by decide) q256 rfl rfl rfl dX2_of_18 (fun H locs O => ?_)
  rw [← eσ_4] at O
  refine lv_aload_n hx hb dX2_of_21 rfl (lv_at hl 0 rfl) ?_
  exact x_aret X O rfl (Or.inl ⟨_, rfl⟩) _ ⟨rfl, (Option.some.inj hf).symm⟩ rfl dX2_of_22
def C_J8_checkIndex_b9 (Δ : DT) (σ : ST) (x0 : Int32) (x1 : Int32) : Option (ST × Int32) :=
  none
theorem w_C_J8_checkIndex_b9 {Δ : DT} (X : FX p m c meth s args RJ8 cJ8_checkIndex 3 (some .int)) (K : XK D d A s) {z : ST × Int32} (σ : ST) (x0 : Int32) (x1 : Int32) (ls : Array Slot) (H : Heap) (locs : List Loc) (O : XH D A s.heap (hC hs) (xct (LC Δ) (okC Δ) (hC hs) d σ) H locs) (hl : lv_has ls 3 [(0, .int x0), (1, .int x1), (2, .null)]) (hf : C_J8_checkIndex_b9 Δ σ x0 x1 = some z) : W p l e (rmD 0 0 0) s m args below meth c H locs 0 0 (MQ below (Qi D (pz z) (cw (hC hs) (LC Δ) (okC Δ) d) A) args s 0 0 A) (F0 m 9 ls []) := by
  have hx := X.1.1; have hb := X.1.2.1
  rw [C_J8_checkIndex_b9] at hf
  exact absurd hf (fun q => by cases q)
def C_J8_checkIndex (Δ : DT) (σ : ST) (p1 : Int32) (p2 : Int32) : Option (ST × Int32) :=
  (if p1 < 0 then C_J8_checkIndex_b9 Δ σ p1 p2 else (if p1 < p2 then some (σ, p1) else C_J8_checkIndex_b9 Δ σ p1 p2))
theorem m_C_J8_checkIndex {l : Launch} {D : va_G} {d : Nat → ClassId} {hs : IX} {Δ : DT} {p1 : Int32} {p2 : Int32} {σ : ST} {z : ST × Int32} (hf : C_J8_checkIndex Δ σ p1 p2 = some z) : XM l D d EN yJ8_checkIndex cJ8_checkIndex 3 (some .int) 0 0 0 [.int p1, .int p2, .null] (hC hs) (xct (LC Δ) (okC Δ) (hC hs) d σ) (Qi D (pz z) (cw (hC hs) (LC Δ) (okC Δ) d)) := by
  refine XM.of (by decide +kernel) (Nat.le_of_ble_eq_true rfl) ?_
  intro p e s m below meth c A ls X _ K _ O hl
  have hl : lv_has ls 3 [(0, .int p1), (1, .int p2), (2, .null)] := hl
  have hx := X.1.1; have hb := X.1.2.1
  rw [C_J8_checkIndex] at hf
  refine lv_iload_n hx hb dJ8_checkIndex_0 rfl (lv_at hl 0 rfl) ?_
  refine lv_if_lt (tgt := 9) hx hb dJ8_checkIndex_1 (by decide) (fun c_1 => ?_) (fun c_1 => ?_)
  · replace hf := if_t c_1 hf
    exact w_C_J8_checkIndex_b9 X K _ _ _ ls _ _ O (lv_sub hl [0, 1, 2] rfl) hf
  · replace hf := if_f c_1 hf
    refine lv_iload_n hx hb dJ8_checkIndex_4 rfl (lv_at hl 0 rfl) ?_
    refine lv_iload_n hx hb dJ8_checkIndex_5 rfl (lv_at hl 1 rfl) ?_
    refine lv_icmp_lt (tgt := 16) hx hb dJ8_checkIndex_6 (by decide) (fun c_2 => ?_) (fun c_2 => ?_)
    · replace hf := if_t c_2 hf
      refine lv_iload_n hx hb dJ8_checkIndex_16 rfl (lv_at hl 0 rfl) ?_
      exact x_iret X O rfl _ (Option.some.inj hf).symm rfl dJ8_checkIndex_17
    · replace hf := if_f c_2 hf
      exact w_C_J8_checkIndex_b9 X K _ _ _ ls _ _ O (lv_sub hl [0, 1, 2] rfl) hf
theorem hdS_J8_checkIndex : (yJ8_checkIndex.cls ≠ "java/lang/invoke/MethodHandle" ∧ yJ8_checkIndex.cls ≠ "java/lang/invoke/VarHandle" ∧ (parseMethodDescriptor yJ8_checkIndex.desc).map (fun d => d.parameters.length) = some 3) := by decide +kernel
def C_J12_checkIndex (Δ : DT) (σ : ST) (p1 : Int32) (p2 : Int32) : Option (ST × Int32) :=
  bn2 (C_J8_checkIndex Δ σ p1 p2) (fun σ_1 r_2 => some (σ_1, r_2))
theorem m_C_J12_checkIndex {l : Launch} {D : va_G} {d : Nat → ClassId} {hs : IX} {Δ : DT} {p1 : Int32} {p2 : Int32} {σ : ST} {z : ST × Int32} (hf : C_J12_checkIndex Δ σ p1 p2 = some z) : XM l D d EN yJ12_checkIndex cJ12_checkIndex 2 (some .int) 1 0 0 [.int p1, .int p2] (hC hs) (xct (LC Δ) (okC Δ) (hC hs) d σ) (Qi D (pz z) (cw (hC hs) (LC Δ) (okC Δ) d)) := by
  refine XM.of (by decide +kernel) (Nat.le_of_ble_eq_true rfl) ?_
  intro p e s m below meth c A ls X _ K _ O hl
  have hl : lv_has ls 2 [(0, .int p1), (1, .int p2)] := hl
  have hx := X.1.1; have hb := X.1.2.1
  rw [C_J12_checkIndex] at hf
  refine lv_iload_n hx hb dJ12_checkIndex_0 rfl (lv_at hl 0 rfl) ?_
  refine lv_iload_n hx hb dJ12_checkIndex_1 rfl (lv_at hl 1 rfl) ?_
  refine lv_null hx hb dJ12_checkIndex_2 ?_
  obtain ⟨σ_1, r_2, hg, hf⟩ := bn2_s hf
  refine x_calli (x_runS (As := [.int p1, .int p2, .null]) (rest := []) X K O (m_C_J8_checkIndex hg) EN_b EN_h (lw_S q769 q539 q128 q540) 3 rfl hl.1 (Nat.le_of_ble_eq_true rfl) hdS_J8_checkIndex ⟨by decide, by decide⟩ ⟨Nat.le_refl _, Nat.le_refl _⟩ dJ12_checkIndex_3) (fun r u H locs hp O _ => ?_)
  cases hp
  have O : XH D A s.heap (hC hs) (xct (LC Δ) (okC Δ) (hC hs) d σ_1) H locs := O
  exact x_iret X O rfl _ (Option.some.inj hf).symm rfl dJ12_checkIndex_6
def C_J2_size (Δ : DT) (v : Nat) (σ : ST) : Option (ST × Int32) :=
  some (σ, (gI σ 20 v 0 2))
theorem m_C_J2_size {l : Launch} {D : va_G} {d : Nat → ClassId} {hs : IX} {Δ : DT} {v : Nat} {σ : ST} {z : ST × Int32} (hk : okC Δ 20 v 0 = true) (hf : C_J2_size Δ v σ = some z) : XM l D d EN yJ2_size cJ2_size 1 (some .int) 0 0 0 [.ref ((hC hs) 20 v 0)] (hC hs) (xct (LC Δ) (okC Δ) (hC hs) d σ) (Qi D (pz z) (cw (hC hs) (LC Δ) (okC Δ) d)) := by
  refine XM.of (by decide +kernel) (Nat.le_of_ble_eq_true rfl) ?_
  intro p e s m below meth c A ls X _ K _ O hl
  have hl : lv_has ls 1 [(0, .ref ((hC hs) 20 v 0))] := hl
  have hx := X.1.1; have hb := X.1.2.1
  rw [C_J2_size] at hf
  refine lv_aload_n hx hb dJ2_size_0 rfl (lv_at hl 0 rfl) ?_
  refine x_gI X K O 2 hk LC_20 rfl rfl in_J2 (by decide) q163 dJ2_size_1 ?_
  exact x_iret X O rfl _ (Option.some.inj hf).symm rfl dJ2_size_4
def C_J2_isEmpty (Δ : DT) (v : Nat) (σ : ST) : Option (ST × Int32) :=
  (if (gI σ 20 v 0 2) = 0 then some (σ, 1) else some (σ, 0))
theorem m_C_J2_isEmpty {l : Launch} {D : va_G} {d : Nat → ClassId} {hs : IX} {Δ : DT} {v : Nat} {σ : ST} {z : ST × Int32} (hk : okC Δ 20 v 0 = true) (hf : C_J2_isEmpty Δ v σ = some z) : XM l D d EN yJ2_isEmpty cJ2_isEmpty 1 (some .boolean) 0 0 0 [.ref ((hC hs) 20 v 0)] (hC hs) (xct (LC Δ) (okC Δ) (hC hs) d σ) (Qi D (pz z) (cw (hC hs) (LC Δ) (okC Δ) d)) := by
  refine XM.of (by decide +kernel) (Nat.le_of_ble_eq_true rfl) ?_
  intro p e s m below meth c A ls X _ K _ O hl
  have hl : lv_has ls 1 [(0, .ref ((hC hs) 20 v 0))] := hl
  have hx := X.1.1; have hb := X.1.2.1
  rw [C_J2_isEmpty] at hf
  refine lv_aload_n hx hb dJ2_isEmpty_0 rfl (lv_at hl 0 rfl) ?_
  refine x_gI X K O 2 hk LC_20 rfl rfl in_J2 (by decide) q163 dJ2_isEmpty_1 ?_
  refine lv_if_ne (tgt := 11) hx hb dJ2_isEmpty_4 (by decide) (fun c_1 => ?_) (fun c_1 => ?_)
  · replace hf := if_f c_1 hf
    refine lv_iconst (v := 0) hx hb dJ2_isEmpty_11 (by decide) ?_
    exact x_zret X O rfl rfl _ (Option.some.inj hf).symm rfl dJ2_isEmpty_12
  · replace hf := if_t c_1 hf
    refine lv_iconst (v := 1) hx hb dJ2_isEmpty_7 (by decide) ?_
    refine lv_goto (tgt := 12) hx hb dJ2_isEmpty_8 (by decide) ?_
    exact x_zret X O rfl rfl _ (Option.some.inj hf).symm rfl dJ2_isEmpty_12
def C_J2_elementData (Δ : DT) (v : Nat) (σ : ST) (p1 : Int32) : Option (ST × Nat) :=
  ck ((okC Δ) 21 (gR σ 20 v 0 1) 0) (ck (okI p1 (LC_21n Δ (gR σ 20 v 0 1))) (ck (decide (¬ gR σ 21 (gR σ 20 v 0 1) 0 (Int32.toNatClampNeg p1) = 0)) (some (σ, (gR σ 21 (gR σ 20 v 0 1) 0 (Int32.toNatClampNeg p1) - 1)))))
theorem m_C_J2_elementData {l : Launch} {D : va_G} {d : Nat → ClassId} {hs : IX} {Δ : DT} {v : Nat} {p1 : Int32} {σ : ST} {z : ST × Nat} (hk : okC Δ 20 v 0 = true) (hf : C_J2_elementData Δ v σ p1 = some z) : XM l D d EN yJ2_elementData cJ2_elementData 2 (some (.object "java/lang/Object")) 0 0 0 [.ref ((hC hs) 20 v 0), .int p1] (hC hs) (xct (LC Δ) (okC Δ) (hC hs) d σ) (Qr D (fun r u => z = (u, r)) (cw (hC hs) (LC Δ) (okC Δ) d)) := by
  refine XM.of (by decide +kernel) (Nat.le_of_ble_eq_true rfl) ?_
  intro p e s m below meth c A ls X _ K _ O hl
  have hl : lv_has ls 2 [(0, .ref ((hC hs) 20 v 0)), (1, .int p1)] := hl
  have hx := X.1.1; have hb := X.1.2.1
  rw [C_J2_elementData] at hf
  refine lv_aload_n hx hb dJ2_elementData_0 rfl (lv_at hl 0 rfl) ?_
  obtain ⟨c_1, hf⟩ := ck_s hf
  refine x_gR X K O 1 hk LC_20 rfl rfl in_J2 (by decide) q162 dJ2_elementData_1 ?_
  refine lv_iload_n hx hb dJ2_elementData_4 rfl (lv_at hl 1 rfl) ?_
  obtain ⟨c_2, hf⟩ := ck_s hf
  obtain ⟨c_3, hf⟩ := ck_s hf
  refine x_aldQ X K O c_1 LC_21 c_2 (j := (Int32.toNatClampNeg p1)) rfl (of_decide_eq_true c_3) dJ2_elementData_5 ?_
  refine x_top (w := .ref (gR σ 21 (gR σ 20 v 0 1) 0 (Int32.toNatClampNeg p1) - 1)) rfl ?_
  exact x_aret X O rfl (Or.inl ⟨_, rfl⟩) _ (Option.some.inj hf).symm rfl dJ2_elementData_6
theorem hdS_J12_checkIndex : (yJ12_checkIndex.cls ≠ "java/lang/invoke/MethodHandle" ∧ yJ12_checkIndex.cls ≠ "java/lang/invoke/VarHandle" ∧ (parseMethodDescriptor yJ12_checkIndex.desc).map (fun d => d.parameters.length) = some 2) := by decide +kernel
theorem hdV_J2_elementData : yJ2_elementData.cls = RJ2 ∧ (yJ2_elementData.cls ≠ "java/lang/invoke/MethodHandle" ∧ yJ2_elementData.cls ≠ "java/lang/invoke/VarHandle" ∧ (parseMethodDescriptor yJ2_elementData.desc).map (fun d => d.parameters.length) = some 1) := by decide +kernel
def C_J2_get (Δ : DT) (v : Nat) (σ : ST) (p1 : Int32) : Option (ST × Nat) :=
  bn2 (C_J12_checkIndex Δ σ p1 (gI σ 20 v 0 2)) (fun σ_1 r_2 => bn2 (C_J2_elementData Δ v σ_1 p1) (fun σ_3 r_4 => some (σ_3, r_4)))
theorem m_C_J2_get {l : Launch} {D : va_G} {d : Nat → ClassId} {hs : IX} {Δ : DT} {v : Nat} {p1 : Int32} {σ : ST} {z : ST × Nat} (hk : okC Δ 20 v 0 = true) (hf : C_J2_get Δ v σ p1 = some z) : XM l D d EN yJ2_get cJ2_get 2 (some (.object "java/lang/Object")) 2 0 0 [.ref ((hC hs) 20 v 0), .int p1] (hC hs) (xct (LC Δ) (okC Δ) (hC hs) d σ) (Qr D (fun r u => z = (u, r)) (cw (hC hs) (LC Δ) (okC Δ) d)) := by
  refine XM.of (by decide +kernel) (Nat.le_of_ble_eq_true rfl) ?_
  intro p e s m below meth c A ls X _ K _ O hl
  have hl : lv_has ls 2 [(0, .ref ((hC hs) 20 v 0)), (1, .int p1)] := hl
  have hx := X.1.1; have hb := X.1.2.1
  rw [C_J2_get] at hf
  refine lv_iload_n hx hb dJ2_get_0 rfl (lv_at hl 1 rfl) ?_
  refine lv_aload_n hx hb dJ2_get_1 rfl (lv_at hl 0 rfl) ?_
  refine x_gI X K O 2 hk LC_20 rfl rfl in_J2 (by decide) q163 dJ2_get_2 ?_
  obtain ⟨σ_1, r_2, hg, hf⟩ := bn2_s hf
  refine x_calli (x_runS (As := [.int p1, .int (gI σ 20 v 0 2)]) (rest := []) X K O (m_C_J12_checkIndex hg) EN_b EN_h (lw_S q766 q767 q139 q768) 2 rfl hl.1 (Nat.le_of_ble_eq_true rfl) hdS_J12_checkIndex ⟨by decide, by decide⟩ ⟨Nat.le_refl _, Nat.le_refl _⟩ dJ2_get_5) (fun r u H locs hp O _ => ?_)
  cases hp
  have O : XH D A s.heap (hC hs) (xct (LC Δ) (okC Δ) (hC hs) d σ_1) H locs := O
  refine lv_pop hx hb dJ2_get_8 rfl ?_
  refine lv_aload_n hx hb dJ2_get_9 rfl (lv_at hl 0 rfl) ?_
  refine lv_iload_n hx hb dJ2_get_10 rfl (lv_at hl 1 rfl) ?_
  obtain ⟨σ_3, r_4, hg, hf⟩ := bn2_s hf
  refine x_callr (x_runV (As := [.int p1]) (rest := []) X K O (xct_obj hk LC_20) rfl (m_C_J2_elementData hk hg) EN_b EN_h (lw_V q770 q771 q772 q114 q773) 1 rfl hl.1 (Nat.le_of_ble_eq_true rfl) hdV_J2_elementData ⟨by decide, by decide⟩ ⟨Nat.le_refl _, Nat.le_refl _⟩ dJ2_get_11) (fun r u H locs hp O _ => ?_)
  cases hp
  have O : XH D A s.heap (hC hs) (xct (LC Δ) (okC Δ) (hC hs) d σ_3) H locs := O
  exact x_aret X O rfl (Or.inl ⟨_, rfl⟩) _ (Option.some.inj hf).symm rfl dJ2_get_14
def C_J4_floorDiv (Δ : DT) (σ : ST) (p1 : Int64) (p2 : Int64) : Option (ST × Int64) :=
  ck (decide (¬ p2 = 0)) (lt1 (p1 / p2) (fun x4_2 => (if 0 ≤ (lg_cmp (p1 ^^^ p2) 0) then some (σ, x4_2) else (if (lg_cmp (x4_2 * p2) p1) = 0 then some (σ, x4_2) else some (σ, (x4_2 - 1))))))
theorem m_C_J4_floorDiv {l : Launch} {D : va_G} {d : Nat → ClassId} {hs : IX} {Δ : DT} {p1 : Int64} {p2 : Int64} {σ : ST} {z : ST × Int64} (hf : C_J4_floorDiv Δ σ p1 p2 = some z) : XM l D d EN yJ4_floorDiv cJ4_floorDiv 6 (some .long) 0 0 0 [.long p1, .long p2] (hC hs) (xct (LC Δ) (okC Δ) (hC hs) d σ) (Ql D (pz z) (cw (hC hs) (LC Δ) (okC Δ) d)) := by
  refine XM.of (by decide +kernel) (Nat.le_of_ble_eq_true rfl) ?_
  intro p e s m below meth c A ls X _ K _ O hl
  have hl : lv_has ls 6 [(0, .long p1), (2, .long p2)] := hl
  have hx := X.1.1; have hb := X.1.2.1
  rw [C_J4_floorDiv] at hf
  refine lv_lload_n hx hb dJ4_floorDiv_0 rfl (lv_at hl 0 rfl) ?_
  refine lv_lload_n hx hb dJ4_floorDiv_1 rfl (lv_at hl 1 rfl) ?_
  obtain ⟨c_1, hf⟩ := ck_s hf
  refine lv_ldiv hx hb dJ4_floorDiv_2 (of_decide_eq_true c_1) ?_
  obtain ⟨x4_2, ex4_2, hf⟩ := lt1_s hf
  refine x_top (w := .long x4_2) (by rw [ex4_2]) ?_
  refine lv_lstore (lv' := [(4, .long x4_2), (0, .long p1), (2, .long p2)]) hx hb dJ4_floorDiv_3 hl (by decide) rfl (fun ls hl => ?_)
  refine lv_lload_n hx hb dJ4_floorDiv_5 rfl (lv_at hl 1 rfl) ?_
  refine lv_lload_n hx hb dJ4_floorDiv_6 rfl (lv_at hl 2 rfl) ?_
  refine lv_lxor hx hb dJ4_floorDiv_7 ?_
  refine lv_lconst (v := 0) hx hb dJ4_floorDiv_8 (by decide) ?_
  refine W.lcmp hx hb dJ4_floorDiv_9 ?_
  refine lv_if_ge (tgt := 27) hx hb dJ4_floorDiv_10 (by decide) (fun c_3 => ?_) (fun c_3 => ?_)
  · replace hf := if_t c_3 hf
    refine lv_lload hx hb dJ4_floorDiv_27 (lv_at hl 0 rfl) ?_
    exact x_lret X O rfl _ (Option.some.inj hf).symm rfl dJ4_floorDiv_29
  · replace hf := if_f c_3 hf
    refine lv_lload hx hb dJ4_floorDiv_13 (lv_at hl 0 rfl) ?_
    refine lv_lload_n hx hb dJ4_floorDiv_15 rfl (lv_at hl 2 rfl) ?_
    refine lv_lmul hx hb dJ4_floorDiv_16 ?_
    refine lv_lload_n hx hb dJ4_floorDiv_17 rfl (lv_at hl 1 rfl) ?_
    refine W.lcmp hx hb dJ4_floorDiv_18 ?_
    refine lv_if_eq (tgt := 27) hx hb dJ4_floorDiv_19 (by decide) (fun c_4 => ?_) (fun c_4 => ?_)
    · replace hf := if_t c_4 hf
      refine lv_lload hx hb dJ4_floorDiv_27 (lv_at hl 0 rfl) ?_
      exact x_lret X O rfl _ (Option.some.inj hf).symm rfl dJ4_floorDiv_29
    · replace hf := if_f c_4 hf
      refine lv_lload hx hb dJ4_floorDiv_22 (lv_at hl 0 rfl) ?_
      refine lv_lconst (v := 1) hx hb dJ4_floorDiv_24 (by decide) ?_
      refine lv_lsub hx hb dJ4_floorDiv_25 ?_
      exact x_lret X O rfl _ (Option.some.inj hf).symm rfl dJ4_floorDiv_26
end CW
