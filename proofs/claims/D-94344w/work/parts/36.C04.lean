section CW
variable {p : Program} {l : Launch} {e : Env} {s : State} {m : MethodId} {args : Array Value} {below : List Frame} {meth : Method} {c : Code} {D : va_G} {A : Nat → Prop} {hs : IX} {d : Nat → ClassId} {Δ : DT}

def C_X0_word_b3 (Δ : DT) : Nat → ST → Int32 → Int32 → Option (ST)
  | 0, _, _, _ => none
  | n + 1, σ, x1, x2 =>
    (if x2 < 0 then some σ else ck (okI (gI σ 0 0 0 1) 400) (lt1 (sI σ 7 0 0 (Int32.toNatClampNeg (gI σ 0 0 0 1)) (vp_nar .byte (Int8.toInt32 (Int32.toInt8 (x1 >>> (x2 &&& 31)))))) (fun σ_3 => lt1 (sI σ_3 0 0 0 1 ((gI σ_3 0 0 0 1) + 1)) (fun σ_4 => lt1 (x2 + (-8)) (fun x2_5 => (C_X0_word_b3 Δ n) σ_4 x1 x2_5)))))
theorem w_C_X0_word_b3 {Δ : DT} (X : FX p m c meth s args RX0 cX0_word 3 none) (K : XK D d A s) {z : ST} : ∀ (n : Nat) (σ : ST) (x1 : Int32) (x2 : Int32) (ls : Array Slot) (H : Heap) (locs : List Loc), XH D A s.heap (hC hs) (xct (LC Δ) (okC Δ) (hC hs) d σ) H locs → lv_has ls 3 [(0, .ref ((hC hs) 0 0 0)), (1, .int x1), (2, .int x2)] → C_X0_word_b3 Δ n σ x1 x2 = some z → W p l e (rmD 0 0 0) s m args below meth c H locs 0 0 (MQ below (Qv D (pu z) (cw (hC hs) (LC Δ) (okC Δ) d) A) args s 0 0 A) (F0 m 3 ls []) := by
  have hx := X.1.1; have hb := X.1.2.1
  intro n
  induction n with
  | zero =>
    intro σ x1 x2 ls H locs O hl hf
    exact absurd hf (fun q => by cases q)
  | succ n ih =>
    intro σ x1 x2 ls H locs O hl hf
    rw [C_X0_word_b3] at hf
    refine lv_iload_n hx hb dX0_word_3 rfl (lv_at hl 2 rfl) ?_
    refine lv_if_lt (tgt := 36) hx hb dX0_word_4 (by decide) (fun c_1 => ?_) (fun c_1 => ?_)
    · replace hf := if_t c_1 hf
      exact x_vret X O rfl _ (Option.some.inj hf).symm rfl dX0_word_36
    · replace hf := if_f c_1 hf
      refine lv_aload_n hx hb dX0_word_7 rfl (lv_at hl 0 rfl) ?_
      refine x_gF X K O 0 rfl LC_0 rfl rfl in_X0 (by decide) q370 dX0_word_8 ?_
      refine lv_aload_n hx hb dX0_word_11 rfl (lv_at hl 0 rfl) ?_
      refine x_gI X K O 1 rfl LC_0 rfl rfl in_X0 (by decide) q373 dX0_word_12 ?_
      refine lv_iload_n hx hb dX0_word_15 rfl (lv_at hl 1 rfl) ?_
      refine lv_iload_n hx hb dX0_word_16 rfl (lv_at hl 2 rfl) ?_
      refine lv_ishr hx hb dX0_word_17 ?_
      refine lv_i2b (v := (Int8.toInt32 (Int32.toInt8 (x1 >>> (x2 &&& 31))))) hx hb dX0_word_18 rfl ?_
      obtain ⟨c_2, hf⟩ := ck_s hf
      obtain ⟨σ_3, eσ_3, hf⟩ := lt1_s hf
      refine x_bst X K O rfl LC_7 c_2 (j := (Int32.toNatClampNeg (gI σ 0 0 0 1))) rfl dX0_word_19 (fun H locs O => ?_)
      rw [← eσ_3] at O
      refine lv_aload_n hx hb dX0_word_20 rfl (lv_at hl 0 rfl) ?_
      refine lv_dup hx hb dX0_word_21 rfl ?_
      refine x_gI X K O 1 rfl LC_0 rfl rfl in_X0 (by decide) q373 dX0_word_22 ?_
      refine lv_iconst (v := 1) hx hb dX0_word_25 (by decide) ?_
      refine lv_iadd hx hb dX0_word_26 ?_
      obtain ⟨σ_4, eσ_4, hf⟩ := lt1_s hf
      refine x_pI X K O 1 rfl LC_0 rfl rfl in_X0 tyX0_ok nmX0 (by decide) q373 rfl rfl rfl dX0_word_27 (fun H locs O => ?_)
      rw [← eσ_4] at O
      obtain ⟨x2_5, ex2_5, hf⟩ := lt1_s hf
      refine lv_iinc (v := x2_5) (lv' := [(2, .int x2_5), (0, .ref ((hC hs) 0 0 0)), (1, .int x1)]) hx hb dX0_word_30 hl (k := 2) rfl (by rw [ex2_5]; rfl) (by decide) rfl (fun ls hl => ?_)
      refine lv_goto (tgt := 3) hx hb dX0_word_33 (by decide) ?_
      exact ih _ _ _ ls _ _ O (lv_sub hl [1, 2, 0] rfl) hf
def C_X0_word (Δ : DT) (σ : ST) (p1 : Int32) : Option (ST) :=
  C_X0_word_b3 Δ FUEL σ p1 24
theorem m_C_X0_word {l : Launch} {D : va_G} {d : Nat → ClassId} {hs : IX} {Δ : DT} {p1 : Int32} {σ : ST} {z : ST} (hf : C_X0_word Δ σ p1 = some z) : XM l D d EN yX0_word cX0_word 3 none 0 0 0 [.ref ((hC hs) 0 0 0), .int p1] (hC hs) (xct (LC Δ) (okC Δ) (hC hs) d σ) (Qv D (pu z) (cw (hC hs) (LC Δ) (okC Δ) d)) := by
  refine XM.of (by decide +kernel) (Nat.le_of_ble_eq_true rfl) ?_
  intro p e s m below meth c A ls X _ K _ O hl
  have hl : lv_has ls 3 [(0, .ref ((hC hs) 0 0 0)), (1, .int p1)] := hl
  have hx := X.1.1; have hb := X.1.2.1
  rw [C_X0_word] at hf
  refine lv_bipush (v := 24) hx hb dX0_word_0 (by decide) ?_
  refine lv_istore_n (lv' := [(2, .int 24), (0, .ref ((hC hs) 0 0 0)), (1, .int p1)]) hx hb dX0_word_2 rfl hl (by decide) rfl (fun ls hl => ?_)
  exact w_C_X0_word_b3 X K _ _ _ _ ls _ _ O (lv_sub hl [1, 2, 0] rfl) hf
theorem hdV_X0_word : yX0_word.cls = RX0 ∧ (yX0_word.cls ≠ "java/lang/invoke/MethodHandle" ∧ yX0_word.cls ≠ "java/lang/invoke/VarHandle" ∧ (parseMethodDescriptor yX0_word.desc).map (fun d => d.parameters.length) = some 1) := by decide +kernel
def C_X0_feed (Δ : DT) (σ : ST) (p1 : Int32) (p2 : Int32) (p3 : Int32) (p4 : Int32) (p5 : Int32) : Option (ST × Int32) :=
  (if ((gI σ 0 0 0 1) + 20) ≤ 400 then bn1 (C_X0_word Δ σ p1) (fun σ_2 => bn1 (C_X0_word Δ σ_2 p2) (fun σ_3 => bn1 (C_X0_word Δ σ_3 p3) (fun σ_4 => bn1 (C_X0_word Δ σ_4 p4) (fun σ_5 => bn1 (C_X0_word Δ σ_5 p5) (fun σ_6 => some (σ_6, (gI σ_6 0 0 0 1))))))) else some (σ, (-1)))
theorem m_C_X0_feed {l : Launch} {D : va_G} {d : Nat → ClassId} {hs : IX} {Δ : DT} {p1 : Int32} {p2 : Int32} {p3 : Int32} {p4 : Int32} {p5 : Int32} {σ : ST} {z : ST × Int32} (hf : C_X0_feed Δ σ p1 p2 p3 p4 p5 = some z) : XM l D d EN yX0_feed cX0_feed 6 (some .int) 1 0 0 [.ref ((hC hs) 0 0 0), .int p1, .int p2, .int p3, .int p4, .int p5] (hC hs) (xct (LC Δ) (okC Δ) (hC hs) d σ) (Qi D (pz z) (cw (hC hs) (LC Δ) (okC Δ) d)) := by
  refine XM.of (by decide +kernel) (Nat.le_of_ble_eq_true rfl) ?_
  intro p e s m below meth c A ls X _ K _ O hl
  have hl : lv_has ls 6 [(0, .ref ((hC hs) 0 0 0)), (1, .int p1), (2, .int p2), (3, .int p3), (4, .int p4), (5, .int p5)] := hl
  have hx := X.1.1; have hb := X.1.2.1
  rw [C_X0_feed] at hf
  refine lv_aload_n hx hb dX0_feed_0 rfl (lv_at hl 0 rfl) ?_
  refine x_gI X K O 1 rfl LC_0 rfl rfl in_X0 (by decide) q373 dX0_feed_1 ?_
  refine lv_bipush (v := 20) hx hb dX0_feed_4 (by decide) ?_
  refine lv_iadd hx hb dX0_feed_6 ?_
  refine lv_sipush (v := 400) hx hb dX0_feed_7 (by decide) ?_
  refine lv_icmp_le (tgt := 15) hx hb dX0_feed_10 (by decide) (fun c_1 => ?_) (fun c_1 => ?_)
  · replace hf := if_t c_1 hf
    refine lv_aload_n hx hb dX0_feed_15 rfl (lv_at hl 0 rfl) ?_
    refine lv_iload_n hx hb dX0_feed_16 rfl (lv_at hl 1 rfl) ?_
    obtain ⟨σ_2, hg, hf⟩ := bn1_s hf
    refine x_callv (x_runV (As := [.int p1]) (rest := []) X K O (xct_obj rfl LC_0) rfl (m_C_X0_word hg) EN_b EN_h (lw_V q436 q438 qs3 q111 q439) 1 rfl hl.1 (Nat.le_of_ble_eq_true rfl) hdV_X0_word ⟨by decide, by decide⟩ ⟨Nat.le_refl _, Nat.le_refl _⟩ dX0_feed_17) (fun u H locs hp O _ => ?_)
    cases hp
    have O : XH D A s.heap (hC hs) (xct (LC Δ) (okC Δ) (hC hs) d σ_2) H locs := O
    refine lv_aload_n hx hb dX0_feed_20 rfl (lv_at hl 0 rfl) ?_
    refine lv_iload_n hx hb dX0_feed_21 rfl (lv_at hl 2 rfl) ?_
    obtain ⟨σ_3, hg, hf⟩ := bn1_s hf
    refine x_callv (x_runV (As := [.int p2]) (rest := []) X K O (xct_obj rfl LC_0) rfl (m_C_X0_word hg) EN_b EN_h (lw_V q436 q438 qs3 q111 q439) 1 rfl hl.1 (Nat.le_of_ble_eq_true rfl) hdV_X0_word ⟨by decide, by decide⟩ ⟨Nat.le_refl _, Nat.le_refl _⟩ dX0_feed_22) (fun u H locs hp O _ => ?_)
    cases hp
    have O : XH D A s.heap (hC hs) (xct (LC Δ) (okC Δ) (hC hs) d σ_3) H locs := O
    refine lv_aload_n hx hb dX0_feed_25 rfl (lv_at hl 0 rfl) ?_
    refine lv_iload_n hx hb dX0_feed_26 rfl (lv_at hl 3 rfl) ?_
    obtain ⟨σ_4, hg, hf⟩ := bn1_s hf
    refine x_callv (x_runV (As := [.int p3]) (rest := []) X K O (xct_obj rfl LC_0) rfl (m_C_X0_word hg) EN_b EN_h (lw_V q436 q438 qs3 q111 q439) 1 rfl hl.1 (Nat.le_of_ble_eq_true rfl) hdV_X0_word ⟨by decide, by decide⟩ ⟨Nat.le_refl _, Nat.le_refl _⟩ dX0_feed_27) (fun u H locs hp O _ => ?_)
    cases hp
    have O : XH D A s.heap (hC hs) (xct (LC Δ) (okC Δ) (hC hs) d σ_4) H locs := O
    refine lv_aload_n hx hb dX0_feed_30 rfl (lv_at hl 0 rfl) ?_
    refine lv_iload hx hb dX0_feed_31 (lv_at hl 4 rfl) ?_
    obtain ⟨σ_5, hg, hf⟩ := bn1_s hf
    refine x_callv (x_runV (As := [.int p4]) (rest := []) X K O (xct_obj rfl LC_0) rfl (m_C_X0_word hg) EN_b EN_h (lw_V q436 q438 qs3 q111 q439) 1 rfl hl.1 (Nat.le_of_ble_eq_true rfl) hdV_X0_word ⟨by decide, by decide⟩ ⟨Nat.le_refl _, Nat.le_refl _⟩ dX0_feed_33) (fun u H locs hp O _ => ?_)
    cases hp
    have O : XH D A s.heap (hC hs) (xct (LC Δ) (okC Δ) (hC hs) d σ_5) H locs := O
    refine lv_aload_n hx hb dX0_feed_36 rfl (lv_at hl 0 rfl) ?_
    refine lv_iload hx hb dX0_feed_37 (lv_at hl 5 rfl) ?_
    obtain ⟨σ_6, hg, hf⟩ := bn1_s hf
    refine x_callv (x_runV (As := [.int p5]) (rest := []) X K O (xct_obj rfl LC_0) rfl (m_C_X0_word hg) EN_b EN_h (lw_V q436 q438 qs3 q111 q439) 1 rfl hl.1 (Nat.le_of_ble_eq_true rfl) hdV_X0_word ⟨by decide, by decide⟩ ⟨Nat.le_refl _, Nat.le_refl _⟩ dX0_feed_39) (fun u H locs hp O _ => ?_)
    cases hp
    have O : XH D A s.heap (hC hs) (xct (LC Δ) (okC Δ) (hC hs) d σ_6) H locs := O
    refine lv_aload_n hx hb dX0_feed_42 rfl (lv_at hl 0 rfl) ?_
    refine x_gI X K O 1 rfl LC_0 rfl rfl in_X0 (by decide) q373 dX0_feed_43 ?_
    exact x_iret X O rfl _ (Option.some.inj hf).symm rfl dX0_feed_46
  · replace hf := if_f c_1 hf
    refine lv_iconst (v := (-1)) hx hb dX0_feed_13 (by decide) ?_
    exact x_iret X O rfl _ (Option.some.inj hf).symm rfl dX0_feed_14
def C_X0_isIn (Δ : DT) (σ : ST) (p1 : Int32) (p2 : Int32) (p3 : Int32) : Option (ST × Int32) :=
  (if p1 < p2 then some (σ, 0) else (if p3 < p1 then some (σ, 0) else some (σ, 1)))
theorem m_C_X0_isIn {l : Launch} {D : va_G} {d : Nat → ClassId} {hs : IX} {Δ : DT} {p1 : Int32} {p2 : Int32} {p3 : Int32} {σ : ST} {z : ST × Int32} (hf : C_X0_isIn Δ σ p1 p2 p3 = some z) : XM l D d EN yX0_isIn cX0_isIn 3 (some .boolean) 0 0 0 [.int p1, .int p2, .int p3] (hC hs) (xct (LC Δ) (okC Δ) (hC hs) d σ) (Qi D (pz z) (cw (hC hs) (LC Δ) (okC Δ) d)) := by
  refine XM.of (by decide +kernel) (Nat.le_of_ble_eq_true rfl) ?_
  intro p e s m below meth c A ls X _ K _ O hl
  have hl : lv_has ls 3 [(0, .int p1), (1, .int p2), (2, .int p3)] := hl
  have hx := X.1.1; have hb := X.1.2.1
  rw [C_X0_isIn] at hf
  refine lv_iload_n hx hb dX0_isIn_0 rfl (lv_at hl 0 rfl) ?_
  refine lv_iload_n hx hb dX0_isIn_1 rfl (lv_at hl 1 rfl) ?_
  refine lv_icmp_lt (tgt := 14) hx hb dX0_isIn_2 (by decide) (fun c_1 => ?_) (fun c_1 => ?_)
  · replace hf := if_t c_1 hf
    refine lv_iconst (v := 0) hx hb dX0_isIn_14 (by decide) ?_
    exact x_zret X O rfl rfl _ (Option.some.inj hf).symm rfl dX0_isIn_15
  · replace hf := if_f c_1 hf
    refine lv_iload_n hx hb dX0_isIn_5 rfl (lv_at hl 0 rfl) ?_
    refine lv_iload_n hx hb dX0_isIn_6 rfl (lv_at hl 2 rfl) ?_
    refine lv_icmp_gt (tgt := 14) hx hb dX0_isIn_7 (by decide) (fun c_2 => ?_) (fun c_2 => ?_)
    · replace hf := if_t c_2 hf
      refine lv_iconst (v := 0) hx hb dX0_isIn_14 (by decide) ?_
      exact x_zret X O rfl rfl _ (Option.some.inj hf).symm rfl dX0_isIn_15
    · replace hf := if_f c_2 hf
      refine lv_iconst (v := 1) hx hb dX0_isIn_10 (by decide) ?_
      refine lv_goto (tgt := 15) hx hb dX0_isIn_11 (by decide) ?_
      exact x_zret X O rfl rfl _ (Option.some.inj hf).symm rfl dX0_isIn_15
theorem hdS_X0_isIn : (yX0_isIn.cls ≠ "java/lang/invoke/MethodHandle" ∧ yX0_isIn.cls ≠ "java/lang/invoke/VarHandle" ∧ (parseMethodDescriptor yX0_isIn.desc).map (fun d => d.parameters.length) = some 3) := by decide +kernel
def C_X0_end (Δ : DT) (σ : ST) (p1 : Int32) : Option (ST × Int32) :=
  bn2 (C_X0_isIn Δ σ p1 0 (gI σ 0 0 0 1)) (fun σ_1 r_2 => (if r_2 = 0 then some (σ_1, 0) else lt1 (sI σ_1 0 0 0 1 p1) (fun σ_4 => some (σ_4, 1))))
theorem m_C_X0_end {l : Launch} {D : va_G} {d : Nat → ClassId} {hs : IX} {Δ : DT} {p1 : Int32} {σ : ST} {z : ST × Int32} (hf : C_X0_end Δ σ p1 = some z) : XM l D d EN yX0_end cX0_end 2 (some .boolean) 1 0 0 [.ref ((hC hs) 0 0 0), .int p1] (hC hs) (xct (LC Δ) (okC Δ) (hC hs) d σ) (Qi D (pz z) (cw (hC hs) (LC Δ) (okC Δ) d)) := by
  refine XM.of (by decide +kernel) (Nat.le_of_ble_eq_true rfl) ?_
  intro p e s m below meth c A ls X _ K _ O hl
  have hl : lv_has ls 2 [(0, .ref ((hC hs) 0 0 0)), (1, .int p1)] := hl
  have hx := X.1.1; have hb := X.1.2.1
  rw [C_X0_end] at hf
  refine lv_iload_n hx hb dX0_end_0 rfl (lv_at hl 1 rfl) ?_
  refine lv_iconst (v := 0) hx hb dX0_end_1 (by decide) ?_
  refine lv_aload_n hx hb dX0_end_2 rfl (lv_at hl 0 rfl) ?_
  refine x_gI X K O 1 rfl LC_0 rfl rfl in_X0 (by decide) q373 dX0_end_3 ?_
  obtain ⟨σ_1, r_2, hg, hf⟩ := bn2_s hf
  refine x_calli (x_runS (As := [.int p1, .int 0, .int (gI σ 0 0 0 1)]) (rest := []) X K O (m_C_X0_isIn hg) EN_b EN_h (lw_S q444 q445 q111 q446) 3 rfl hl.1 (Nat.le_of_ble_eq_true rfl) hdS_X0_isIn ⟨by decide, by decide⟩ ⟨Nat.le_refl _, Nat.le_refl _⟩ dX0_end_6) (fun r u H locs hp O _ => ?_)
  cases hp
  have O : XH D A s.heap (hC hs) (xct (LC Δ) (okC Δ) (hC hs) d σ_1) H locs := O
  refine lv_if_ne (tgt := 14) hx hb dX0_end_9 (by decide) (fun c_3 => ?_) (fun c_3 => ?_)
  · replace hf := if_f c_3 hf
    refine lv_aload_n hx hb dX0_end_14 rfl (lv_at hl 0 rfl) ?_
    refine lv_iload_n hx hb dX0_end_15 rfl (lv_at hl 1 rfl) ?_
    obtain ⟨σ_4, eσ_4, hf⟩ := lt1_s hf
    refine x_pI X K O 1 rfl LC_0 rfl rfl in_X0 tyX0_ok nmX0 (by decide) q373 rfl rfl rfl dX0_end_16 (fun H locs O => ?_)
    rw [← eσ_4] at O
    refine lv_iconst (v := 1) hx hb dX0_end_19 (by decide) ?_
    exact x_zret X O rfl rfl _ (Option.some.inj hf).symm rfl dX0_end_20
  · replace hf := if_t c_3 hf
    refine lv_iconst (v := 0) hx hb dX0_end_12 (by decide) ?_
    exact x_zret X O rfl rfl _ (Option.some.inj hf).symm rfl dX0_end_13
def C_X0_fault (Δ : DT) (σ : ST) (p1 : Int32) : Option (ST × Int32) :=
  (if p1 = 0 then some (σ, (gI σ 0 0 0 4)) else (if p1 = 1 then some (σ, (gI σ 0 0 0 5)) else some (σ, (-1))))
theorem m_C_X0_fault {l : Launch} {D : va_G} {d : Nat → ClassId} {hs : IX} {Δ : DT} {p1 : Int32} {σ : ST} {z : ST × Int32} (hf : C_X0_fault Δ σ p1 = some z) : XM l D d EN yX0_fault cX0_fault 2 (some .int) 0 0 0 [.ref ((hC hs) 0 0 0), .int p1] (hC hs) (xct (LC Δ) (okC Δ) (hC hs) d σ) (Qi D (pz z) (cw (hC hs) (LC Δ) (okC Δ) d)) := by
  refine XM.of (by decide +kernel) (Nat.le_of_ble_eq_true rfl) ?_
  intro p e s m below meth c A ls X _ K _ O hl
  have hl : lv_has ls 2 [(0, .ref ((hC hs) 0 0 0)), (1, .int p1)] := hl
  have hx := X.1.1; have hb := X.1.2.1
  rw [C_X0_fault] at hf
  refine lv_iload_n hx hb dX0_fault_0 rfl (lv_at hl 1 rfl) ?_
  refine lv_if_ne (tgt := 11) hx hb dX0_fault_1 (by decide) (fun c_1 => ?_) (fun c_1 => ?_)
  · replace hf := if_f c_1 hf
    refine lv_iload_n hx hb dX0_fault_11 rfl (lv_at hl 1 rfl) ?_
    refine lv_iconst (v := 1) hx hb dX0_fault_12 (by decide) ?_
    refine lv_icmp_ne (tgt := 23) hx hb dX0_fault_13 (by decide) (fun c_2 => ?_) (fun c_2 => ?_)
    · replace hf := if_f c_2 hf
      refine lv_iconst (v := (-1)) hx hb dX0_fault_23 (by decide) ?_
      exact x_iret X O rfl _ (Option.some.inj hf).symm rfl dX0_fault_24
    · replace hf := if_t c_2 hf
      refine lv_aload_n hx hb dX0_fault_16 rfl (lv_at hl 0 rfl) ?_
      refine x_gI X K O 5 rfl LC_0 rfl rfl in_X0 (by decide) q378 dX0_fault_17 ?_
      refine lv_goto (tgt := 24) hx hb dX0_fault_20 (by decide) ?_
      exact x_iret X O rfl _ (Option.some.inj hf).symm rfl dX0_fault_24
  · replace hf := if_t c_1 hf
    refine lv_aload_n hx hb dX0_fault_4 rfl (lv_at hl 0 rfl) ?_
    refine x_gI X K O 4 rfl LC_0 rfl rfl in_X0 (by decide) q377 dX0_fault_5 ?_
    refine lv_goto (tgt := 24) hx hb dX0_fault_8 (by decide) ?_
    exact x_iret X O rfl _ (Option.some.inj hf).symm rfl dX0_fault_24
def C_X0_state (Δ : DT) (σ : ST) (p1 : Int32) : Option (ST × Int32) :=
  lt1 (gI σ 1 0 0 8) (fun x2_1 => lt1 (sI σ 1 0 0 8 p1) (fun σ_2 => some (σ_2, x2_1)))
theorem m_C_X0_state {l : Launch} {D : va_G} {d : Nat → ClassId} {hs : IX} {Δ : DT} {p1 : Int32} {σ : ST} {z : ST × Int32} (hf : C_X0_state Δ σ p1 = some z) : XM l D d EN yX0_state cX0_state 3 (some .int) 0 0 0 [.ref ((hC hs) 0 0 0), .int p1] (hC hs) (xct (LC Δ) (okC Δ) (hC hs) d σ) (Qi D (pz z) (cw (hC hs) (LC Δ) (okC Δ) d)) := by
  refine XM.of (by decide +kernel) (Nat.le_of_ble_eq_true rfl) ?_
  intro p e s m below meth c A ls X _ K _ O hl
  have hl : lv_has ls 3 [(0, .ref ((hC hs) 0 0 0)), (1, .int p1)] := hl
  have hx := X.1.1; have hb := X.1.2.1
  rw [C_X0_state] at hf
  refine lv_aload_n hx hb dX0_state_0 rfl (lv_at hl 0 rfl) ?_
  refine x_gF X K O 6 rfl LC_0 rfl rfl in_X0 (by decide) q379 dX0_state_1 ?_
  refine x_gIN X K O 8 rfl LC_1 rfl rfl in_X1 (by decide) q311 dX0_state_4 ?_
  obtain ⟨x2_1, ex2_1, hf⟩ := lt1_s hf
  refine x_top (w := .int x2_1) (by rw [ex2_1]) ?_
  refine lv_istore_n (lv' := [(2, .int x2_1), (0, .ref ((hC hs) 0 0 0)), (1, .int p1)]) hx hb dX0_state_7 rfl hl (by decide) rfl (fun ls hl => ?_)
  refine lv_aload_n hx hb dX0_state_8 rfl (lv_at hl 1 rfl) ?_
  refine x_gF X K O 6 rfl LC_0 rfl rfl in_X0 (by decide) q379 dX0_state_9 ?_
  refine lv_iload_n hx hb dX0_state_12 rfl (lv_at hl 2 rfl) ?_
  obtain ⟨σ_2, eσ_2, hf⟩ := lt1_s hf
  refine x_pIN X K O 8 rfl LC_1 rfl rfl in_X1 tyX1_ok nmX1 (by decide) q311 rfl rfl rfl dX0_state_13 (fun H locs O => ?_)
  rw [← eσ_2] at O
  refine lv_iload_n hx hb dX0_state_16 rfl (lv_at hl 0 rfl) ?_
  exact x_iret X O rfl _ (Option.some.inj hf).symm rfl dX0_state_17
def C_X0_one_b55 (Δ : DT) : Nat → ST → Int32 → Int32 → Nat → Int32 → Option (ST × Int32)
  | 0, _, _, _, _, _ => none
  | n + 1, σ, x1, x2, x3b, x4 =>
    (if 9 ≤ x4 then lt1 (sI σ 9 0 x3b 0 x2) (fun σ_2 => lt1 (sI σ_2 9 0 x3b 1 x1) (fun σ_3 => lt1 (sI σ_3 1 0 0 5 ((gI σ_3 1 0 0 5) + 1)) (fun σ_4 => some (σ_4, ((gI σ_4 1 0 0 5) - 1))))) else ck (okI x4 9) (lt1 (sI σ 9 0 x3b (Int32.toNatClampNeg x4) 0) (fun σ_6 => lt1 (x4 + 1) (fun x4_7 => (C_X0_one_b55 Δ n) σ_6 x1 x2 x3b x4_7))))
theorem w_C_X0_one_b55 {Δ : DT} (X : FX p m c meth s args RX0 cX0_one 5 (some .int)) (K : XK D d A s) {z : ST × Int32} : ∀ (n : Nat) (σ : ST) (x1 : Int32) (x2 : Int32) (x3b : Nat) (x4 : Int32) (kx3 : (okC Δ) 9 0 x3b = true) (ls : Array Slot) (H : Heap) (locs : List Loc), XH D A s.heap (hC hs) (xct (LC Δ) (okC Δ) (hC hs) d σ) H locs → lv_has ls 5 [(0, .ref ((hC hs) 0 0 0)), (1, .int x1), (2, .int x2), (3, .ref ((hC hs) 9 0 x3b)), (4, .int x4)] → C_X0_one_b55 Δ n σ x1 x2 x3b x4 = some z → W p l e (rmD 1 0 0) s m args below meth c H locs 0 0 (MQ below (Qi D (pz z) (cw (hC hs) (LC Δ) (okC Δ) d) A) args s 0 0 A) (F0 m 55 ls []) := by
  have hx := X.1.1; have hb := X.1.2.1
  intro n
  induction n with
  | zero =>
    intro σ x1 x2 x3b x4 kx3 ls H locs O hl hf
    exact absurd hf (fun q => by cases q)
  | succ n ih =>
    intro σ x1 x2 x3b x4 kx3 ls H locs O hl hf
    rw [C_X0_one_b55] at hf
    refine lv_iload hx hb dX0_one_55 (lv_at hl 4 rfl) ?_
    refine lv_aload_n hx hb dX0_one_57 rfl (lv_at hl 3 rfl) ?_
    refine x_len (v := 9) X K O 0 kx3 LC_9 rfl (by decide) dX0_one_58 ?_
    refine lv_icmp_ge (tgt := 73) hx hb dX0_one_59 (by decide) (fun c_1 => ?_) (fun c_1 => ?_)
    · replace hf := if_t c_1 hf
      refine lv_aload_n hx hb dX0_one_73 rfl (lv_at hl 3 rfl) ?_
      refine lv_iconst (v := 0) hx hb dX0_one_74 (by decide) ?_
      refine lv_iload_n hx hb dX0_one_75 rfl (lv_at hl 2 rfl) ?_
      obtain ⟨σ_2, eσ_2, hf⟩ := lt1_s hf
      refine x_ist X K O kx3 LC_9 (by decide) (j := 0) rfl dX0_one_76 (fun H locs O => ?_)
      rw [← eσ_2] at O
      refine lv_aload_n hx hb dX0_one_77 rfl (lv_at hl 3 rfl) ?_
      refine lv_iconst (v := 1) hx hb dX0_one_78 (by decide) ?_
      refine lv_iload_n hx hb dX0_one_79 rfl (lv_at hl 1 rfl) ?_
      obtain ⟨σ_3, eσ_3, hf⟩ := lt1_s hf
      refine x_ist X K O kx3 LC_9 (by decide) (j := 1) rfl dX0_one_80 (fun H locs O => ?_)
      rw [← eσ_3] at O
      refine lv_aload_n hx hb dX0_one_81 rfl (lv_at hl 0 rfl) ?_
      refine x_gF X K O 6 rfl LC_0 rfl rfl in_X0 (by decide) q379 dX0_one_82 ?_
      refine lv_dup hx hb dX0_one_85 rfl ?_
      refine x_gIN X K O 5 rfl LC_1 rfl rfl in_X1 (by decide) q304 dX0_one_86 ?_
      refine lv_iconst (v := 1) hx hb dX0_one_89 (by decide) ?_
      refine lv_iadd hx hb dX0_one_90 ?_
      obtain ⟨σ_4, eσ_4, hf⟩ := lt1_s hf
      refine x_pIN X K O 5 rfl LC_1 rfl rfl in_X1 tyX1_ok nmX1 (by decide) q304 rfl rfl rfl dX0_one_91 (fun H locs O => ?_)
      rw [← eσ_4] at O
      refine lv_aload_n hx hb dX0_one_94 rfl (lv_at hl 0 rfl) ?_
      refine x_gF X K O 6 rfl LC_0 rfl rfl in_X0 (by decide) q379 dX0_one_95 ?_
      refine x_gIN X K O 5 rfl LC_1 rfl rfl in_X1 (by decide) q304 dX0_one_98 ?_
      refine lv_iconst (v := 1) hx hb dX0_one_101 (by decide) ?_
      refine lv_isub hx hb dX0_one_102 ?_
      exact x_iret X O rfl _ (Option.some.inj hf).symm rfl dX0_one_103
    · replace hf := if_f c_1 hf
      refine lv_aload_n hx hb dX0_one_62 rfl (lv_at hl 3 rfl) ?_
      refine lv_iload hx hb dX0_one_63 (lv_at hl 4 rfl) ?_
      refine lv_iconst (v := 0) hx hb dX0_one_65 (by decide) ?_
      obtain ⟨c_5, hf⟩ := ck_s hf
      obtain ⟨σ_6, eσ_6, hf⟩ := lt1_s hf
      refine x_ist X K O kx3 LC_9 c_5 (j := (Int32.toNatClampNeg x4)) rfl dX0_one_66 (fun H locs O => ?_)
      rw [← eσ_6] at O
      obtain ⟨x4_7, ex4_7, hf⟩ := lt1_s hf
      refine lv_iinc (v := x4_7) (lv' := [(4, .int x4_7), (0, .ref ((hC hs) 0 0 0)), (1, .int x1), (2, .int x2), (3, .ref ((hC hs) 9 0 x3b))]) hx hb dX0_one_67 hl (k := 4) rfl (by rw [ex4_7]; rfl) (by decide) rfl (fun ls hl => ?_)
      refine lv_goto (tgt := 55) hx hb dX0_one_70 (by decide) ?_
      exact ih _ _ _ _ _ kx3 ls _ _ O (lv_sub hl [1, 2, 3, 4, 0] rfl) hf
def C_X0_one (Δ : DT) (σ : ST) (p1 : Int32) (p2 : Int32) : Option (ST × Int32) :=
  bn2 (C_X0_isIn Δ σ p1 0 99) (fun σ_1 r_2 => (if r_2 = 0 then some (σ_1, (-1)) else bn2 (C_X0_isIn Δ σ_1 p2 0 4) (fun σ_4 r_5 => (if r_5 = 0 then some (σ_4, (-1)) else (if (gI σ_4 1 0 0 5) = 12 then some (σ_4, (-1)) else ck (okI (gI σ_4 1 0 0 5) 12) (C_X0_one_b55 Δ FUEL σ_4 p1 p2 (Int32.toNatClampNeg (gI σ_4 1 0 0 5)) 0))))))
theorem m_C_X0_one {l : Launch} {D : va_G} {d : Nat → ClassId} {hs : IX} {Δ : DT} {p1 : Int32} {p2 : Int32} {σ : ST} {z : ST × Int32} (hf : C_X0_one Δ σ p1 p2 = some z) : XM l D d EN yX0_one cX0_one 5 (some .int) 1 0 0 [.ref ((hC hs) 0 0 0), .int p1, .int p2] (hC hs) (xct (LC Δ) (okC Δ) (hC hs) d σ) (Qi D (pz z) (cw (hC hs) (LC Δ) (okC Δ) d)) := by
  refine XM.of (by decide +kernel) (Nat.le_of_ble_eq_true rfl) ?_
  intro p e s m below meth c A ls X _ K _ O hl
  have hl : lv_has ls 5 [(0, .ref ((hC hs) 0 0 0)), (1, .int p1), (2, .int p2)] := hl
  have hx := X.1.1; have hb := X.1.2.1
  rw [C_X0_one] at hf
  refine lv_iload_n hx hb dX0_one_0 rfl (lv_at hl 1 rfl) ?_
  refine lv_iconst (v := 0) hx hb dX0_one_1 (by decide) ?_
  refine lv_bipush (v := 99) hx hb dX0_one_2 (by decide) ?_
  obtain ⟨σ_1, r_2, hg, hf⟩ := bn2_s hf
  refine x_calli (x_runS (As := [.int p1, .int 0, .int 99]) (rest := []) X K O (m_C_X0_isIn hg) EN_b EN_h (lw_S q444 q445 q111 q446) 3 rfl hl.1 (Nat.le_of_ble_eq_true rfl) hdS_X0_isIn ⟨by decide, by decide⟩ ⟨Nat.le_refl _, Nat.le_refl _⟩ dX0_one_4) (fun r u H locs hp O _ => ?_)
  cases hp
  have O : XH D A s.heap (hC hs) (xct (LC Δ) (okC Δ) (hC hs) d σ_1) H locs := O
  refine lv_if_eq (tgt := 31) hx hb dX0_one_7 (by decide) (fun c_3 => ?_) (fun c_3 => ?_)
  · replace hf := if_t c_3 hf
    refine lv_iconst (v := (-1)) hx hb dX0_one_31 (by decide) ?_
    exact x_iret X O rfl _ (Option.some.inj hf).symm rfl dX0_one_32
  · replace hf := if_f c_3 hf
    refine lv_iload_n hx hb dX0_one_10 rfl (lv_at hl 2 rfl) ?_
    refine lv_iconst (v := 0) hx hb dX0_one_11 (by decide) ?_
    refine lv_iconst (v := 4) hx hb dX0_one_12 (by decide) ?_
    obtain ⟨σ_4, r_5, hg, hf⟩ := bn2_s hf
    refine x_calli (x_runS (As := [.int p2, .int 0, .int 4]) (rest := []) X K O (m_C_X0_isIn hg) EN_b EN_h (lw_S q444 q445 q111 q446) 3 rfl hl.1 (Nat.le_of_ble_eq_true rfl) hdS_X0_isIn ⟨by decide, by decide⟩ ⟨Nat.le_refl _, Nat.le_refl _⟩ dX0_one_13) (fun r u H locs hp O _ => ?_)
    cases hp
    have O : XH D A s.heap (hC hs) (xct (LC Δ) (okC Δ) (hC hs) d σ_4) H locs := O
    refine lv_if_eq (tgt := 31) hx hb dX0_one_16 (by decide) (fun c_6 => ?_) (fun c_6 => ?_)
    · replace hf := if_t c_6 hf
      refine lv_iconst (v := (-1)) hx hb dX0_one_31 (by decide) ?_
      exact x_iret X O rfl _ (Option.some.inj hf).symm rfl dX0_one_32
    · replace hf := if_f c_6 hf
      refine lv_aload_n hx hb dX0_one_19 rfl (lv_at hl 0 rfl) ?_
      refine x_gF X K O 6 rfl LC_0 rfl rfl in_X0 (by decide) q379 dX0_one_20 ?_
      refine x_gIN X K O 5 rfl LC_1 rfl rfl in_X1 (by decide) q304 dX0_one_23 ?_
      refine lv_bipush (v := 12) hx hb dX0_one_26 (by decide) ?_
      refine lv_icmp_ne (tgt := 33) hx hb dX0_one_28 (by decide) (fun c_7 => ?_) (fun c_7 => ?_)
      · replace hf := if_f c_7 hf
        refine lv_aload_n hx hb dX0_one_33 rfl (lv_at hl 0 rfl) ?_
        refine x_gF X K O 6 rfl LC_0 rfl rfl in_X0 (by decide) q379 dX0_one_34 ?_
        refine x_gFN X K O 0 rfl LC_1 rfl rfl in_X1 (by decide) q295 dX0_one_37 ?_
        refine lv_aload_n hx hb dX0_one_40 rfl (lv_at hl 0 rfl) ?_
        refine x_gF X K O 6 rfl LC_0 rfl rfl in_X0 (by decide) q379 dX0_one_41 ?_
        refine x_gIN X K O 5 rfl LC_1 rfl rfl in_X1 (by decide) q304 dX0_one_44 ?_
        obtain ⟨c_8, hf⟩ := ck_s hf
        refine x_ald X K O 3 rfl LC_5 (by decide) rfl rfl c_8 (j := (Int32.toNatClampNeg (gI σ_4 1 0 0 5))) rfl dX0_one_47 ?_
        refine x_gFN X K O 0 (oks_b (B := 1) (b := 0) rfl (okI_lt c_8)) LC_8 rfl rfl in_X3 (by decide) q278 dX0_one_48 ?_
        refine lv_astore_n (lv' := [(3, .ref ((hC hs) 9 0 (Int32.toNatClampNeg (gI σ_4 1 0 0 5)))), (0, .ref ((hC hs) 0 0 0)), (1, .int p1), (2, .int p2)]) hx hb dX0_one_51 rfl hl (by decide) rfl (fun ls hl => ?_)
        refine lv_iconst (v := 0) hx hb dX0_one_52 (by decide) ?_
        refine lv_istore (lv' := [(4, .int 0), (3, .ref ((hC hs) 9 0 (Int32.toNatClampNeg (gI σ_4 1 0 0 5)))), (0, .ref ((hC hs) 0 0 0)), (1, .int p1), (2, .int p2)]) hx hb dX0_one_53 hl (by decide) rfl (fun ls hl => ?_)
        exact w_C_X0_one_b55 X K _ _ _ _ _ _ (oks_b (B := 1) (b := 0) rfl (okI_lt c_8)) ls _ _ O (lv_sub hl [2, 3, 4, 1, 0] rfl) hf
      · replace hf := if_t c_7 hf
        refine lv_iconst (v := (-1)) hx hb dX0_one_31 (by decide) ?_
        exact x_iret X O rfl _ (Option.some.inj hf).symm rfl dX0_one_32
def C_X0_isOne (Δ : DT) (σ : ST) (p1 : Int32) : Option (ST × Int32) :=
  bn2 (C_X0_isIn Δ σ p1 0 ((gI σ 1 0 0 5) - 1)) (fun σ_1 r_2 => ck (okZ r_2) (some (σ_1, r_2)))
theorem m_C_X0_isOne {l : Launch} {D : va_G} {d : Nat → ClassId} {hs : IX} {Δ : DT} {p1 : Int32} {σ : ST} {z : ST × Int32} (hf : C_X0_isOne Δ σ p1 = some z) : XM l D d EN yX0_isOne cX0_isOne 2 (some .boolean) 1 0 0 [.ref ((hC hs) 0 0 0), .int p1] (hC hs) (xct (LC Δ) (okC Δ) (hC hs) d σ) (Qi D (pz z) (cw (hC hs) (LC Δ) (okC Δ) d)) := by
  refine XM.of (by decide +kernel) (Nat.le_of_ble_eq_true rfl) ?_
  intro p e s m below meth c A ls X _ K _ O hl
  have hl : lv_has ls 2 [(0, .ref ((hC hs) 0 0 0)), (1, .int p1)] := hl
  have hx := X.1.1; have hb := X.1.2.1
  rw [C_X0_isOne] at hf
  refine lv_iload_n hx hb dX0_isOne_0 rfl (lv_at hl 1 rfl) ?_
  refine lv_iconst (v := 0) hx hb dX0_isOne_1 (by decide) ?_
  refine lv_aload_n hx hb dX0_isOne_2 rfl (lv_at hl 0 rfl) ?_
  refine x_gF X K O 6 rfl LC_0 rfl rfl in_X0 (by decide) q379 dX0_isOne_3 ?_
  refine x_gIN X K O 5 rfl LC_1 rfl rfl in_X1 (by decide) q304 dX0_isOne_6 ?_
  refine lv_iconst (v := 1) hx hb dX0_isOne_9 (by decide) ?_
  refine lv_isub hx hb dX0_isOne_10 ?_
  obtain ⟨σ_1, r_2, hg, hf⟩ := bn2_s hf
  refine x_calli (x_runS (As := [.int p1, .int 0, .int ((gI σ 1 0 0 5) - 1)]) (rest := []) X K O (m_C_X0_isIn hg) EN_b EN_h (lw_S q444 q445 q111 q446) 3 rfl hl.1 (Nat.le_of_ble_eq_true rfl) hdS_X0_isIn ⟨by decide, by decide⟩ ⟨Nat.le_refl _, Nat.le_refl _⟩ dX0_isOne_11) (fun r u H locs hp O _ => ?_)
  cases hp
  have O : XH D A s.heap (hC hs) (xct (LC Δ) (okC Δ) (hC hs) d σ_1) H locs := O
  obtain ⟨c_3, hf⟩ := ck_s hf
  exact x_zret X O rfl (okZ_n c_3) _ (Option.some.inj hf).symm rfl dX0_isOne_14
theorem hdV_X0_isOne : yX0_isOne.cls = RX0 ∧ (yX0_isOne.cls ≠ "java/lang/invoke/MethodHandle" ∧ yX0_isOne.cls ≠ "java/lang/invoke/VarHandle" ∧ (parseMethodDescriptor yX0_isOne.desc).map (fun d => d.parameters.length) = some 1) := by decide +kernel
def C_X0_stick_b52 (Δ : DT) (σ : ST) (x1 : Int32) (x2 : Int32) (x3 : Int32) (s0 : Int32) (s1 : Int32) (s2 : Int32) : Option (ST × Int32) :=
  bn2 (C_X0_isIn Δ σ s0 s1 s2) (fun σ_1 r_2 => (if r_2 = 0 then some (σ_1, 0) else ck (okI x1 12) (ck (okI x2 9) (lt1 (sI σ_1 9 0 (Int32.toNatClampNeg x1) (Int32.toNatClampNeg x2) x3) (fun σ_6 => some (σ_6, 1))))))
theorem w_C_X0_stick_b52 {Δ : DT} (X : FX p m c meth s args RX0 cX0_stick 4 (some .boolean)) (K : XK D d A s) {z : ST × Int32} (σ : ST) (x1 : Int32) (x2 : Int32) (x3 : Int32) (s0 : Int32) (s1 : Int32) (s2 : Int32) (ls : Array Slot) (H : Heap) (locs : List Loc) (O : XH D A s.heap (hC hs) (xct (LC Δ) (okC Δ) (hC hs) d σ) H locs) (hl : lv_has ls 4 [(0, .ref ((hC hs) 0 0 0)), (1, .int x1), (2, .int x2), (3, .int x3)]) (hf : C_X0_stick_b52 Δ σ x1 x2 x3 s0 s1 s2 = some z) : W p l e (rmD 2 0 0) s m args below meth c H locs 0 0 (MQ below (Qi D (pz z) (cw (hC hs) (LC Δ) (okC Δ) d) A) args s 0 0 A) (F0 m 52 ls [.int s2, .int s1, .int s0]) := by
  have hx := X.1.1; have hb := X.1.2.1
  rw [C_X0_stick_b52] at hf
  obtain ⟨σ_1, r_2, hg, hf⟩ := bn2_s hf
  refine x_calli (x_runS (As := [.int s0, .int s1, .int s2]) (rest := []) X K O (m_C_X0_isIn hg) EN_b EN_h (lw_S q444 q445 q111 q446) 3 rfl hl.1 (Nat.le_of_ble_eq_true rfl) hdS_X0_isIn ⟨by decide, by decide⟩ ⟨Nat.le_refl _, Nat.le_refl _⟩ dX0_stick_52) (fun r u H locs hp O _ => ?_)
  cases hp
  have O : XH D A s.heap (hC hs) (xct (LC Δ) (okC Δ) (hC hs) d σ_1) H locs := O
  refine lv_if_ne (tgt := 60) hx hb dX0_stick_55 (by decide) (fun c_3 => ?_) (fun c_3 => ?_)
  · replace hf := if_f c_3 hf
    refine lv_aload_n hx hb dX0_stick_60 rfl (lv_at hl 0 rfl) ?_
    refine x_gF X K O 6 rfl LC_0 rfl rfl in_X0 (by decide) q379 dX0_stick_61 ?_
    refine x_gFN X K O 0 rfl LC_1 rfl rfl in_X1 (by decide) q295 dX0_stick_64 ?_
    refine lv_iload_n hx hb dX0_stick_67 rfl (lv_at hl 1 rfl) ?_
    obtain ⟨c_4, hf⟩ := ck_s hf
    refine x_ald X K O 3 rfl LC_5 (by decide) rfl rfl c_4 (j := (Int32.toNatClampNeg x1)) rfl dX0_stick_68 ?_
    refine x_gFN X K O 0 (oks_b (B := 1) (b := 0) rfl (okI_lt c_4)) LC_8 rfl rfl in_X3 (by decide) q278 dX0_stick_69 ?_
    refine lv_iload_n hx hb dX0_stick_72 rfl (lv_at hl 2 rfl) ?_
    refine lv_iload_n hx hb dX0_stick_73 rfl (lv_at hl 3 rfl) ?_
    obtain ⟨c_5, hf⟩ := ck_s hf
    obtain ⟨σ_6, eσ_6, hf⟩ := lt1_s hf
    refine x_ist X K O (oks_b (B := 1) (b := 0) rfl (okI_lt c_4)) LC_9 c_5 (j := (Int32.toNatClampNeg x2)) rfl dX0_stick_74 (fun H locs O => ?_)
    rw [← eσ_6] at O
    refine lv_iconst (v := 1) hx hb dX0_stick_75 (by decide) ?_
    exact x_zret X O rfl rfl _ (Option.some.inj hf).symm rfl dX0_stick_76
  · replace hf := if_t c_3 hf
    refine lv_iconst (v := 0) hx hb dX0_stick_58 (by decide) ?_
    exact x_zret X O rfl rfl _ (Option.some.inj hf).symm rfl dX0_stick_59
def C_X0_stick (Δ : DT) (σ : ST) (p1 : Int32) (p2 : Int32) (p3 : Int32) : Option (ST × Int32) :=
  bn2 (C_X0_isOne Δ σ p1) (fun σ_1 r_2 => (if r_2 = 0 then some (σ_1, 0) else bn2 (C_X0_isIn Δ σ_1 p2 0 6) (fun σ_4 r_5 => (if r_5 = 0 then some (σ_4, 0) else (if p2 = 0 then C_X0_stick_b52 Δ σ_4 p1 p2 p3 p3 0 4 else (if p2 = 1 then C_X0_stick_b52 Δ σ_4 p1 p2 p3 p3 0 99 else (if p2 = 6 then C_X0_stick_b52 Δ σ_4 p1 p2 p3 p3 0 9 else C_X0_stick_b52 Δ σ_4 p1 p2 p3 p3 0 9999)))))))
theorem m_C_X0_stick {l : Launch} {D : va_G} {d : Nat → ClassId} {hs : IX} {Δ : DT} {p1 : Int32} {p2 : Int32} {p3 : Int32} {σ : ST} {z : ST × Int32} (hf : C_X0_stick Δ σ p1 p2 p3 = some z) : XM l D d EN yX0_stick cX0_stick 4 (some .boolean) 2 0 0 [.ref ((hC hs) 0 0 0), .int p1, .int p2, .int p3] (hC hs) (xct (LC Δ) (okC Δ) (hC hs) d σ) (Qi D (pz z) (cw (hC hs) (LC Δ) (okC Δ) d)) := by
  refine XM.of (by decide +kernel) (Nat.le_of_ble_eq_true rfl) ?_
  intro p e s m below meth c A ls X _ K _ O hl
  have hl : lv_has ls 4 [(0, .ref ((hC hs) 0 0 0)), (1, .int p1), (2, .int p2), (3, .int p3)] := hl
  have hx := X.1.1; have hb := X.1.2.1
  rw [C_X0_stick] at hf
  refine lv_aload_n hx hb dX0_stick_0 rfl (lv_at hl 0 rfl) ?_
  refine lv_iload_n hx hb dX0_stick_1 rfl (lv_at hl 1 rfl) ?_
  obtain ⟨σ_1, r_2, hg, hf⟩ := bn2_s hf
  refine x_calli (x_runV (As := [.int p1]) (rest := []) X K O (xct_obj rfl LC_0) rfl (m_C_X0_isOne hg) EN_b EN_h (lw_V q791 q793 qs23 q111 q794) 1 rfl hl.1 (Nat.le_of_ble_eq_true rfl) hdV_X0_isOne ⟨by decide, by decide⟩ ⟨Nat.le_refl _, Nat.le_refl _⟩ dX0_stick_2) (fun r u H locs hp O _ => ?_)
  cases hp
  have O : XH D A s.heap (hC hs) (xct (LC Δ) (okC Δ) (hC hs) d σ_1) H locs := O
  refine lv_if_eq (tgt := 58) hx hb dX0_stick_5 (by decide) (fun c_3 => ?_) (fun c_3 => ?_)
  · replace hf := if_t c_3 hf
    refine lv_iconst (v := 0) hx hb dX0_stick_58 (by decide) ?_
    exact x_zret X O rfl rfl _ (Option.some.inj hf).symm rfl dX0_stick_59
  · replace hf := if_f c_3 hf
    refine lv_iload_n hx hb dX0_stick_8 rfl (lv_at hl 2 rfl) ?_
    refine lv_iconst (v := 0) hx hb dX0_stick_9 (by decide) ?_
    refine lv_bipush (v := 6) hx hb dX0_stick_10 (by decide) ?_
    obtain ⟨σ_4, r_5, hg, hf⟩ := bn2_s hf
    refine x_calli (x_runS (As := [.int p2, .int 0, .int 6]) (rest := []) X K O (m_C_X0_isIn hg) EN_b EN_h (lw_S q444 q445 q111 q446) 3 rfl hl.1 (Nat.le_of_ble_eq_true rfl) hdS_X0_isIn ⟨by decide, by decide⟩ ⟨Nat.le_refl _, Nat.le_refl _⟩ dX0_stick_12) (fun r u H locs hp O _ => ?_)
    cases hp
    have O : XH D A s.heap (hC hs) (xct (LC Δ) (okC Δ) (hC hs) d σ_4) H locs := O
    refine lv_if_eq (tgt := 58) hx hb dX0_stick_15 (by decide) (fun c_6 => ?_) (fun c_6 => ?_)
    · replace hf := if_t c_6 hf
      refine lv_iconst (v := 0) hx hb dX0_stick_58 (by decide) ?_
      exact x_zret X O rfl rfl _ (Option.some.inj hf).symm rfl dX0_stick_59
    · replace hf := if_f c_6 hf
      refine lv_iload_n hx hb dX0_stick_18 rfl (lv_at hl 3 rfl) ?_
      refine lv_iconst (v := 0) hx hb dX0_stick_19 (by decide) ?_
      refine lv_iload_n hx hb dX0_stick_20 rfl (lv_at hl 2 rfl) ?_
      refine lv_if_ne (tgt := 28) hx hb dX0_stick_21 (by decide) (fun c_7 => ?_) (fun c_7 => ?_)
      · replace hf := if_f c_7 hf
        refine lv_iload_n hx hb dX0_stick_28 rfl (lv_at hl 2 rfl) ?_
        refine lv_iconst (v := 1) hx hb dX0_stick_29 (by decide) ?_
        refine lv_icmp_ne (tgt := 38) hx hb dX0_stick_30 (by decide) (fun c_8 => ?_) (fun c_8 => ?_)
        · replace hf := if_f c_8 hf
          refine lv_iload_n hx hb dX0_stick_38 rfl (lv_at hl 2 rfl) ?_
          refine lv_bipush (v := 6) hx hb dX0_stick_39 (by decide) ?_
          refine lv_icmp_ne (tgt := 49) hx hb dX0_stick_41 (by decide) (fun c_9 => ?_) (fun c_9 => ?_)
          · replace hf := if_f c_9 hf
            refine lv_sipush (v := 9999) hx hb dX0_stick_49 (by decide) ?_
            exact w_C_X0_stick_b52 X K _ _ _ _ _ _ _ ls _ _ O (lv_sub hl [0, 1, 2, 3] rfl) hf
          · replace hf := if_t c_9 hf
            refine lv_bipush (v := 9) hx hb dX0_stick_44 (by decide) ?_
            refine lv_goto (tgt := 52) hx hb dX0_stick_46 (by decide) ?_
            exact w_C_X0_stick_b52 X K _ _ _ _ _ _ _ ls _ _ O (lv_sub hl [0, 1, 2, 3] rfl) hf
        · replace hf := if_t c_8 hf
          refine lv_bipush (v := 99) hx hb dX0_stick_33 (by decide) ?_
          refine lv_goto (tgt := 52) hx hb dX0_stick_35 (by decide) ?_
          exact w_C_X0_stick_b52 X K _ _ _ _ _ _ _ ls _ _ O (lv_sub hl [0, 1, 2, 3] rfl) hf
      · replace hf := if_t c_7 hf
        refine lv_iconst (v := 4) hx hb dX0_stick_24 (by decide) ?_
        refine lv_goto (tgt := 52) hx hb dX0_stick_25 (by decide) ?_
        exact w_C_X0_stick_b52 X K _ _ _ _ _ _ _ ls _ _ O (lv_sub hl [0, 1, 2, 3] rfl) hf
def C_X0_set_b45 (Δ : DT) (σ : ST) (x1 : Int32) (x2 : Int32) (s0 : Int32) : Option (ST × Int32) :=
  bn2 (C_X0_isIn Δ σ x1 0 22) (fun σ_1 r_2 => (if r_2 = 0 then some (σ_1, 0) else (if x1 = 10 then some (σ_1, 0) else bn2 (C_X0_isIn Δ σ_1 x2 0 s0) (fun σ_5 r_6 => (if r_6 = 0 then some (σ_5, 0) else ck (okI x1 23) (lt1 (sI σ_5 4 0 0 (Int32.toNatClampNeg x1) x2) (fun σ_9 => some (σ_9, 1))))))))
theorem w_C_X0_set_b45 {Δ : DT} (X : FX p m c meth s args RX0 cX0_set 4 (some .boolean)) (K : XK D d A s) {z : ST × Int32} (σ : ST) (x1 : Int32) (x2 : Int32) (s0 : Int32) (ls : Array Slot) (H : Heap) (locs : List Loc) (O : XH D A s.heap (hC hs) (xct (LC Δ) (okC Δ) (hC hs) d σ) H locs) (hl : lv_has ls 4 [(0, .ref ((hC hs) 0 0 0)), (1, .int x1), (2, .int x2)]) (hf : C_X0_set_b45 Δ σ x1 x2 s0 = some z) : W p l e (rmD 1 0 0) s m args below meth c H locs 0 0 (MQ below (Qi D (pz z) (cw (hC hs) (LC Δ) (okC Δ) d) A) args s 0 0 A) (F0 m 45 ls [.int s0]) := by
  have hx := X.1.1; have hb := X.1.2.1
  rw [C_X0_set_b45] at hf
  refine lv_istore_n (lv' := [(3, .int s0), (0, .ref ((hC hs) 0 0 0)), (1, .int x1), (2, .int x2)]) hx hb dX0_set_45 rfl hl (by decide) rfl (fun ls hl => ?_)
  refine lv_iload_n hx hb dX0_set_46 rfl (lv_at hl 2 rfl) ?_
  refine lv_iconst (v := 0) hx hb dX0_set_47 (by decide) ?_
  refine lv_bipush (v := 22) hx hb dX0_set_48 (by decide) ?_
  obtain ⟨σ_1, r_2, hg, hf⟩ := bn2_s hf
  refine x_calli (x_runS (As := [.int x1, .int 0, .int 22]) (rest := []) X K O (m_C_X0_isIn hg) EN_b EN_h (lw_S q444 q445 q111 q446) 3 rfl hl.1 (Nat.le_of_ble_eq_true rfl) hdS_X0_isIn ⟨by decide, by decide⟩ ⟨Nat.le_refl _, Nat.le_refl _⟩ dX0_set_50) (fun r u H locs hp O _ => ?_)
  cases hp
  have O : XH D A s.heap (hC hs) (xct (LC Δ) (okC Δ) (hC hs) d σ_1) H locs := O
  refine lv_if_eq (tgt := 71) hx hb dX0_set_53 (by decide) (fun c_3 => ?_) (fun c_3 => ?_)
  · replace hf := if_t c_3 hf
    refine lv_iconst (v := 0) hx hb dX0_set_71 (by decide) ?_
    exact x_zret X O rfl rfl _ (Option.some.inj hf).symm rfl dX0_set_72
  · replace hf := if_f c_3 hf
    refine lv_iload_n hx hb dX0_set_56 rfl (lv_at hl 2 rfl) ?_
    refine lv_bipush (v := 10) hx hb dX0_set_57 (by decide) ?_
    refine lv_icmp_eq (tgt := 71) hx hb dX0_set_59 (by decide) (fun c_4 => ?_) (fun c_4 => ?_)
    · replace hf := if_t c_4 hf
      refine lv_iconst (v := 0) hx hb dX0_set_71 (by decide) ?_
      exact x_zret X O rfl rfl _ (Option.some.inj hf).symm rfl dX0_set_72
    · replace hf := if_f c_4 hf
      refine lv_iload_n hx hb dX0_set_62 rfl (lv_at hl 3 rfl) ?_
      refine lv_iconst (v := 0) hx hb dX0_set_63 (by decide) ?_
      refine lv_iload_n hx hb dX0_set_64 rfl (lv_at hl 0 rfl) ?_
      obtain ⟨σ_5, r_6, hg, hf⟩ := bn2_s hf
      refine x_calli (x_runS (As := [.int x2, .int 0, .int s0]) (rest := []) X K O (m_C_X0_isIn hg) EN_b EN_h (lw_S q444 q445 q111 q446) 3 rfl hl.1 (Nat.le_of_ble_eq_true rfl) hdS_X0_isIn ⟨by decide, by decide⟩ ⟨Nat.le_refl _, Nat.le_refl _⟩ dX0_set_65) (fun r u H locs hp O _ => ?_)
      cases hp
      have O : XH D A s.heap (hC hs) (xct (LC Δ) (okC Δ) (hC hs) d σ_5) H locs := O
      refine lv_if_ne (tgt := 73) hx hb dX0_set_68 (by decide) (fun c_7 => ?_) (fun c_7 => ?_)
      · replace hf := if_f c_7 hf
        refine lv_aload_n hx hb dX0_set_73 rfl (lv_at hl 1 rfl) ?_
        refine x_gF X K O 6 rfl LC_0 rfl rfl in_X0 (by decide) q379 dX0_set_74 ?_
        refine x_gFN X K O 2 rfl LC_1 rfl rfl in_X1 (by decide) q300 dX0_set_77 ?_
        refine lv_iload_n hx hb dX0_set_80 rfl (lv_at hl 2 rfl) ?_
        refine lv_iload_n hx hb dX0_set_81 rfl (lv_at hl 3 rfl) ?_
        obtain ⟨c_8, hf⟩ := ck_s hf
        obtain ⟨σ_9, eσ_9, hf⟩ := lt1_s hf
        refine x_ist X K O rfl LC_4 c_8 (j := (Int32.toNatClampNeg x1)) rfl dX0_set_82 (fun H locs O => ?_)
        rw [← eσ_9] at O
        refine lv_iconst (v := 1) hx hb dX0_set_83 (by decide) ?_
        exact x_zret X O rfl rfl _ (Option.some.inj hf).symm rfl dX0_set_84
      · replace hf := if_t c_7 hf
        refine lv_iconst (v := 0) hx hb dX0_set_71 (by decide) ?_
        exact x_zret X O rfl rfl _ (Option.some.inj hf).symm rfl dX0_set_72
def C_X0_set (Δ : DT) (σ : ST) (p1 : Int32) (p2 : Int32) : Option (ST × Int32) :=
  (if p1 = 5 then C_X0_set_b45 Δ σ p1 p2 1000 else (if p1 = 6 then C_X0_set_b45 Δ σ p1 p2 9 else (if p1 = 8 then C_X0_set_b45 Δ σ p1 p2 20 else (if p1 = 9 then C_X0_set_b45 Δ σ p1 p2 1 else C_X0_set_b45 Δ σ p1 p2 99))))
theorem m_C_X0_set {l : Launch} {D : va_G} {d : Nat → ClassId} {hs : IX} {Δ : DT} {p1 : Int32} {p2 : Int32} {σ : ST} {z : ST × Int32} (hf : C_X0_set Δ σ p1 p2 = some z) : XM l D d EN yX0_set cX0_set 4 (some .boolean) 1 0 0 [.ref ((hC hs) 0 0 0), .int p1, .int p2] (hC hs) (xct (LC Δ) (okC Δ) (hC hs) d σ) (Qi D (pz z) (cw (hC hs) (LC Δ) (okC Δ) d)) := by
  refine XM.of (by decide +kernel) (Nat.le_of_ble_eq_true rfl) ?_
  intro p e s m below meth c A ls X _ K _ O hl
  have hl : lv_has ls 4 [(0, .ref ((hC hs) 0 0 0)), (1, .int p1), (2, .int p2)] := hl
  have hx := X.1.1; have hb := X.1.2.1
  rw [C_X0_set] at hf
  refine lv_iload_n hx hb dX0_set_0 rfl (lv_at hl 1 rfl) ?_
  refine lv_iconst (v := 5) hx hb dX0_set_1 (by decide) ?_
  refine lv_icmp_ne (tgt := 11) hx hb dX0_set_2 (by decide) (fun c_1 => ?_) (fun c_1 => ?_)
  · replace hf := if_f c_1 hf
    refine lv_iload_n hx hb dX0_set_11 rfl (lv_at hl 1 rfl) ?_
    refine lv_bipush (v := 6) hx hb dX0_set_12 (by decide) ?_
    refine lv_icmp_ne (tgt := 22) hx hb dX0_set_14 (by decide) (fun c_2 => ?_) (fun c_2 => ?_)
    · replace hf := if_f c_2 hf
      refine lv_iload_n hx hb dX0_set_22 rfl (lv_at hl 1 rfl) ?_
      refine lv_bipush (v := 8) hx hb dX0_set_23 (by decide) ?_
      refine lv_icmp_ne (tgt := 33) hx hb dX0_set_25 (by decide) (fun c_3 => ?_) (fun c_3 => ?_)
      · replace hf := if_f c_3 hf
        refine lv_iload_n hx hb dX0_set_33 rfl (lv_at hl 1 rfl) ?_
        refine lv_bipush (v := 9) hx hb dX0_set_34 (by decide) ?_
        refine lv_icmp_ne (tgt := 43) hx hb dX0_set_36 (by decide) (fun c_4 => ?_) (fun c_4 => ?_)
        · replace hf := if_f c_4 hf
          refine lv_bipush (v := 99) hx hb dX0_set_43 (by decide) ?_
          exact w_C_X0_set_b45 X K _ _ _ _ ls _ _ O (lv_sub hl [0, 1, 2] rfl) hf
        · replace hf := if_t c_4 hf
          refine lv_iconst (v := 1) hx hb dX0_set_39 (by decide) ?_
          refine lv_goto (tgt := 45) hx hb dX0_set_40 (by decide) ?_
          exact w_C_X0_set_b45 X K _ _ _ _ ls _ _ O (lv_sub hl [0, 1, 2] rfl) hf
      · replace hf := if_t c_3 hf
        refine lv_bipush (v := 20) hx hb dX0_set_28 (by decide) ?_
        refine lv_goto (tgt := 45) hx hb dX0_set_30 (by decide) ?_
        exact w_C_X0_set_b45 X K _ _ _ _ ls _ _ O (lv_sub hl [0, 1, 2] rfl) hf
    · replace hf := if_t c_2 hf
      refine lv_bipush (v := 9) hx hb dX0_set_17 (by decide) ?_
      refine lv_goto (tgt := 45) hx hb dX0_set_19 (by decide) ?_
      exact w_C_X0_set_b45 X K _ _ _ _ ls _ _ O (lv_sub hl [0, 1, 2] rfl) hf
  · replace hf := if_t c_1 hf
    refine lv_sipush (v := 1000) hx hb dX0_set_5 (by decide) ?_
    refine lv_goto (tgt := 45) hx hb dX0_set_8 (by decide) ?_
    exact w_C_X0_set_b45 X K _ _ _ _ ls _ _ O (lv_sub hl [0, 1, 2] rfl) hf
def C_X0_of (Δ : DT) (σ : ST) (p1 : Int32) (p2 : Int32) : Option (ST × Int32) :=
  bn2 (C_X0_isOne Δ σ p1) (fun σ_1 r_2 => (if r_2 = 0 then some (σ_1, (-10000000)) else bn2 (C_X0_isIn Δ σ_1 p2 0 8) (fun σ_4 r_5 => (if r_5 = 0 then some (σ_4, (-10000000)) else ck (okI p1 12) (ck (okI p2 9) (some (σ_4, (gI σ_4 9 0 (Int32.toNatClampNeg p1) (Int32.toNatClampNeg p2)))))))))
theorem m_C_X0_of {l : Launch} {D : va_G} {d : Nat → ClassId} {hs : IX} {Δ : DT} {p1 : Int32} {p2 : Int32} {σ : ST} {z : ST × Int32} (hf : C_X0_of Δ σ p1 p2 = some z) : XM l D d EN yX0_of cX0_of 3 (some .int) 2 0 0 [.ref ((hC hs) 0 0 0), .int p1, .int p2] (hC hs) (xct (LC Δ) (okC Δ) (hC hs) d σ) (Qi D (pz z) (cw (hC hs) (LC Δ) (okC Δ) d)) := by
  refine XM.of (by decide +kernel) (Nat.le_of_ble_eq_true rfl) ?_
  intro p e s m below meth c A ls X _ K _ O hl
  have hl : lv_has ls 3 [(0, .ref ((hC hs) 0 0 0)), (1, .int p1), (2, .int p2)] := hl
  have hx := X.1.1; have hb := X.1.2.1
  rw [C_X0_of] at hf
  refine lv_aload_n hx hb dX0_of_0 rfl (lv_at hl 0 rfl) ?_
  refine lv_iload_n hx hb dX0_of_1 rfl (lv_at hl 1 rfl) ?_
  obtain ⟨σ_1, r_2, hg, hf⟩ := bn2_s hf
  refine x_calli (x_runV (As := [.int p1]) (rest := []) X K O (xct_obj rfl LC_0) rfl (m_C_X0_isOne hg) EN_b EN_h (lw_V q791 q793 qs23 q111 q794) 1 rfl hl.1 (Nat.le_of_ble_eq_true rfl) hdV_X0_isOne ⟨by decide, by decide⟩ ⟨Nat.le_refl _, Nat.le_refl _⟩ dX0_of_2) (fun r u H locs hp O _ => ?_)
  cases hp
  have O : XH D A s.heap (hC hs) (xct (LC Δ) (okC Δ) (hC hs) d σ_1) H locs := O
  refine lv_if_eq (tgt := 35) hx hb dX0_of_5 (by decide) (fun c_3 => ?_) (fun c_3 => ?_)
  · replace hf := if_t c_3 hf
    refine lv_ldc (v := (-10000000)) hx hb X.1.2.2.2.1 (X.1.2.2.2.2 _ q803) dX0_of_35 ?_
    exact x_iret X O rfl _ (Option.some.inj hf).symm rfl dX0_of_37
  · replace hf := if_f c_3 hf
    refine lv_iload_n hx hb dX0_of_8 rfl (lv_at hl 2 rfl) ?_
    refine lv_iconst (v := 0) hx hb dX0_of_9 (by decide) ?_
    refine lv_bipush (v := 8) hx hb dX0_of_10 (by decide) ?_
    obtain ⟨σ_4, r_5, hg, hf⟩ := bn2_s hf
    refine x_calli (x_runS (As := [.int p2, .int 0, .int 8]) (rest := []) X K O (m_C_X0_isIn hg) EN_b EN_h (lw_S q444 q445 q111 q446) 3 rfl hl.1 (Nat.le_of_ble_eq_true rfl) hdS_X0_isIn ⟨by decide, by decide⟩ ⟨Nat.le_refl _, Nat.le_refl _⟩ dX0_of_12) (fun r u H locs hp O _ => ?_)
    cases hp
    have O : XH D A s.heap (hC hs) (xct (LC Δ) (okC Δ) (hC hs) d σ_4) H locs := O
    refine lv_if_eq (tgt := 35) hx hb dX0_of_15 (by decide) (fun c_6 => ?_) (fun c_6 => ?_)
    · replace hf := if_t c_6 hf
      refine lv_ldc (v := (-10000000)) hx hb X.1.2.2.2.1 (X.1.2.2.2.2 _ q803) dX0_of_35 ?_
      exact x_iret X O rfl _ (Option.some.inj hf).symm rfl dX0_of_37
    · replace hf := if_f c_6 hf
      refine lv_aload_n hx hb dX0_of_18 rfl (lv_at hl 0 rfl) ?_
      refine x_gF X K O 6 rfl LC_0 rfl rfl in_X0 (by decide) q379 dX0_of_19 ?_
      refine x_gFN X K O 0 rfl LC_1 rfl rfl in_X1 (by decide) q295 dX0_of_22 ?_
      refine lv_iload_n hx hb dX0_of_25 rfl (lv_at hl 1 rfl) ?_
      obtain ⟨c_7, hf⟩ := ck_s hf
      refine x_ald X K O 3 rfl LC_5 (by decide) rfl rfl c_7 (j := (Int32.toNatClampNeg p1)) rfl dX0_of_26 ?_
      refine x_gFN X K O 0 (oks_b (B := 1) (b := 0) rfl (okI_lt c_7)) LC_8 rfl rfl in_X3 (by decide) q278 dX0_of_27 ?_
      refine lv_iload_n hx hb dX0_of_30 rfl (lv_at hl 2 rfl) ?_
      obtain ⟨c_8, hf⟩ := ck_s hf
      refine x_ild X K O (oks_b (B := 1) (b := 0) rfl (okI_lt c_7)) LC_9 c_8 (j := (Int32.toNatClampNeg p2)) rfl dX0_of_31 ?_
      refine lv_goto (tgt := 37) hx hb dX0_of_32 (by decide) ?_
      exact x_iret X O rfl _ (Option.some.inj hf).symm rfl dX0_of_37
def C_X0_areTwo (Δ : DT) (σ : ST) (p1 : Int32) (p2 : Int32) : Option (ST × Int32) :=
  bn2 (C_X0_isOne Δ σ p1) (fun σ_1 r_2 => (if r_2 = 0 then some (σ_1, 0) else bn2 (C_X0_isOne Δ σ_1 p2) (fun σ_4 r_5 => (if r_5 = 0 then some (σ_4, 0) else (if p1 = p2 then some (σ_4, 0) else some (σ_4, 1))))))
theorem m_C_X0_areTwo {l : Launch} {D : va_G} {d : Nat → ClassId} {hs : IX} {Δ : DT} {p1 : Int32} {p2 : Int32} {σ : ST} {z : ST × Int32} (hf : C_X0_areTwo Δ σ p1 p2 = some z) : XM l D d EN yX0_areTwo cX0_areTwo 3 (some .boolean) 2 0 0 [.ref ((hC hs) 0 0 0), .int p1, .int p2] (hC hs) (xct (LC Δ) (okC Δ) (hC hs) d σ) (Qi D (pz z) (cw (hC hs) (LC Δ) (okC Δ) d)) := by
  refine XM.of (by decide +kernel) (Nat.le_of_ble_eq_true rfl) ?_
  intro p e s m below meth c A ls X _ K _ O hl
  have hl : lv_has ls 3 [(0, .ref ((hC hs) 0 0 0)), (1, .int p1), (2, .int p2)] := hl
  have hx := X.1.1; have hb := X.1.2.1
  rw [C_X0_areTwo] at hf
  refine lv_aload_n hx hb dX0_areTwo_0 rfl (lv_at hl 0 rfl) ?_
  refine lv_iload_n hx hb dX0_areTwo_1 rfl (lv_at hl 1 rfl) ?_
  obtain ⟨σ_1, r_2, hg, hf⟩ := bn2_s hf
  refine x_calli (x_runV (As := [.int p1]) (rest := []) X K O (xct_obj rfl LC_0) rfl (m_C_X0_isOne hg) EN_b EN_h (lw_V q791 q793 qs23 q111 q794) 1 rfl hl.1 (Nat.le_of_ble_eq_true rfl) hdV_X0_isOne ⟨by decide, by decide⟩ ⟨Nat.le_refl _, Nat.le_refl _⟩ dX0_areTwo_2) (fun r u H locs hp O _ => ?_)
  cases hp
  have O : XH D A s.heap (hC hs) (xct (LC Δ) (okC Δ) (hC hs) d σ_1) H locs := O
  refine lv_if_eq (tgt := 25) hx hb dX0_areTwo_5 (by decide) (fun c_3 => ?_) (fun c_3 => ?_)
  · replace hf := if_t c_3 hf
    refine lv_iconst (v := 0) hx hb dX0_areTwo_25 (by decide) ?_
    exact x_zret X O rfl rfl _ (Option.some.inj hf).symm rfl dX0_areTwo_26
  · replace hf := if_f c_3 hf
    refine lv_aload_n hx hb dX0_areTwo_8 rfl (lv_at hl 0 rfl) ?_
    refine lv_iload_n hx hb dX0_areTwo_9 rfl (lv_at hl 2 rfl) ?_
    obtain ⟨σ_4, r_5, hg, hf⟩ := bn2_s hf
    refine x_calli (x_runV (As := [.int p2]) (rest := []) X K O (xct_obj rfl LC_0) rfl (m_C_X0_isOne hg) EN_b EN_h (lw_V q791 q793 qs23 q111 q794) 1 rfl hl.1 (Nat.le_of_ble_eq_true rfl) hdV_X0_isOne ⟨by decide, by decide⟩ ⟨Nat.le_refl _, Nat.le_refl _⟩ dX0_areTwo_10) (fun r u H locs hp O _ => ?_)
    cases hp
    have O : XH D A s.heap (hC hs) (xct (LC Δ) (okC Δ) (hC hs) d σ_4) H locs := O
    refine lv_if_eq (tgt := 25) hx hb dX0_areTwo_13 (by decide) (fun c_6 => ?_) (fun c_6 => ?_)
    · replace hf := if_t c_6 hf
      refine lv_iconst (v := 0) hx hb dX0_areTwo_25 (by decide) ?_
      exact x_zret X O rfl rfl _ (Option.some.inj hf).symm rfl dX0_areTwo_26
    · replace hf := if_f c_6 hf
      refine lv_iload_n hx hb dX0_areTwo_16 rfl (lv_at hl 1 rfl) ?_
      refine lv_iload_n hx hb dX0_areTwo_17 rfl (lv_at hl 2 rfl) ?_
      refine lv_icmp_eq (tgt := 25) hx hb dX0_areTwo_18 (by decide) (fun c_7 => ?_) (fun c_7 => ?_)
      · replace hf := if_t c_7 hf
        refine lv_iconst (v := 0) hx hb dX0_areTwo_25 (by decide) ?_
        exact x_zret X O rfl rfl _ (Option.some.inj hf).symm rfl dX0_areTwo_26
      · replace hf := if_f c_7 hf
        refine lv_iconst (v := 1) hx hb dX0_areTwo_21 (by decide) ?_
        refine lv_goto (tgt := 26) hx hb dX0_areTwo_22 (by decide) ?_
        exact x_zret X O rfl rfl _ (Option.some.inj hf).symm rfl dX0_areTwo_26
def C_X0_isSize (Δ : DT) (σ : ST) (p1 : Int32) : Option (ST × Int32) :=
  bn2 (C_X0_isIn Δ σ p1 1 12) (fun σ_1 r_2 => ck (okZ r_2) (some (σ_1, r_2)))
theorem m_C_X0_isSize {l : Launch} {D : va_G} {d : Nat → ClassId} {hs : IX} {Δ : DT} {p1 : Int32} {σ : ST} {z : ST × Int32} (hf : C_X0_isSize Δ σ p1 = some z) : XM l D d EN yX0_isSize cX0_isSize 1 (some .boolean) 1 0 0 [.int p1] (hC hs) (xct (LC Δ) (okC Δ) (hC hs) d σ) (Qi D (pz z) (cw (hC hs) (LC Δ) (okC Δ) d)) := by
  refine XM.of (by decide +kernel) (Nat.le_of_ble_eq_true rfl) ?_
  intro p e s m below meth c A ls X _ K _ O hl
  have hl : lv_has ls 1 [(0, .int p1)] := hl
  have hx := X.1.1; have hb := X.1.2.1
  rw [C_X0_isSize] at hf
  refine lv_iload_n hx hb dX0_isSize_0 rfl (lv_at hl 0 rfl) ?_
  refine lv_iconst (v := 1) hx hb dX0_isSize_1 (by decide) ?_
  refine lv_bipush (v := 12) hx hb dX0_isSize_2 (by decide) ?_
  obtain ⟨σ_1, r_2, hg, hf⟩ := bn2_s hf
  refine x_calli (x_runS (As := [.int p1, .int 1, .int 12]) (rest := []) X K O (m_C_X0_isIn hg) EN_b EN_h (lw_S q444 q445 q111 q446) 3 rfl hl.1 (Nat.le_of_ble_eq_true rfl) hdS_X0_isIn ⟨by decide, by decide⟩ ⟨Nat.le_refl _, Nat.le_refl _⟩ dX0_isSize_4) (fun r u H locs hp O _ => ?_)
  cases hp
  have O : XH D A s.heap (hC hs) (xct (LC Δ) (okC Δ) (hC hs) d σ_1) H locs := O
  obtain ⟨c_3, hf⟩ := ck_s hf
  exact x_zret X O rfl (okZ_n c_3) _ (Option.some.inj hf).symm rfl dX0_isSize_7
theorem hdS_X0_isSize : (yX0_isSize.cls ≠ "java/lang/invoke/MethodHandle" ∧ yX0_isSize.cls ≠ "java/lang/invoke/VarHandle" ∧ (parseMethodDescriptor yX0_isSize.desc).map (fun d => d.parameters.length) = some 1) := by decide +kernel
theorem hdV_X0_areTwo : yX0_areTwo.cls = RX0 ∧ (yX0_areTwo.cls ≠ "java/lang/invoke/MethodHandle" ∧ yX0_areTwo.cls ≠ "java/lang/invoke/VarHandle" ∧ (parseMethodDescriptor yX0_areTwo.desc).map (fun d => d.parameters.length) = some 2) := by decide +kernel
def C_X0_would_b74 (Δ : DT) (σ : ST) (s0 : Int32) : Option (ST × Int32) :=
  (if s0 = 0 then some (σ, 0) else some (σ, 1))
theorem w_C_X0_would_b74 {Δ : DT} (X : FX p m c meth s args RX0 cX0_would 6 (some .int)) (K : XK D d A s) {z : ST × Int32} (σ : ST) (s0 : Int32) (ls : Array Slot) (H : Heap) (locs : List Loc) (O : XH D A s.heap (hC hs) (xct (LC Δ) (okC Δ) (hC hs) d σ) H locs) (hl : lv_has ls 6 []) (hf : C_X0_would_b74 Δ σ s0 = some z) : W p l e (rmD 846 0 0) s m args below meth c H locs 0 0 (MQ below (Qi D (pz z) (cw (hC hs) (LC Δ) (okC Δ) d) A) args s 0 0 A) (F0 m 74 ls [.int s0]) := by
  have hx := X.1.1; have hb := X.1.2.1
  rw [C_X0_would_b74] at hf
  refine lv_istore (lv' := [(5, .int s0)]) hx hb dX0_would_74 hl (by decide) rfl (fun ls hl => ?_)
  refine lv_iload hx hb dX0_would_76 (lv_at hl 0 rfl) ?_
  refine lv_if_eq (tgt := 85) hx hb dX0_would_78 (by decide) (fun c_1 => ?_) (fun c_1 => ?_)
  · replace hf := if_t c_1 hf
    refine lv_iconst (v := 0) hx hb dX0_would_85 (by decide) ?_
    exact x_iret X O rfl _ (Option.some.inj hf).symm rfl dX0_would_86
  · replace hf := if_f c_1 hf
    refine lv_iconst (v := 1) hx hb dX0_would_81 (by decide) ?_
    refine lv_goto (tgt := 86) hx hb dX0_would_82 (by decide) ?_
    exact x_iret X O rfl _ (Option.some.inj hf).symm rfl dX0_would_86
def C_X0_would (Δ : DT) (σ : ST) (p1 : Int32) (p2 : Int32) (p3 : Int32) (p4 : Int32) : Option (ST × Int32) :=
  bn2 (C_X0_areTwo Δ σ p1 p2) (fun σ_1 r_2 => (if r_2 = 0 then some (σ_1, (-1)) else bn2 (C_X0_isSize Δ σ_1 p3) (fun σ_4 r_5 => (if r_5 = 0 then some (σ_4, (-1)) else bn2 (C_X0_isIn Δ σ_4 p4 0 2) (fun σ_7 r_8 => (if r_8 = 0 then some (σ_7, (-1)) else (if p4 = 0 then bn2 (C_X1_deals Δ 0 σ_7 p1 p2 p3) (fun σ_16 r_17 => C_X0_would_b74 Δ σ_16 r_17) else (if p4 = 1 then bn2 (C_X1_breaks Δ 0 σ_7 p1 p2 p3) (fun σ_14 r_15 => C_X0_would_b74 Δ σ_14 r_15) else bn2 (C_X1_isLawful Δ 0 σ_7 p1 p3) (fun σ_12 r_13 => C_X0_would_b74 Δ σ_12 r_13)))))))))
theorem m_C_X0_would {l : Launch} {D : va_G} {d : Nat → ClassId} {hs : IX} {Δ : DT} {p1 : Int32} {p2 : Int32} {p3 : Int32} {p4 : Int32} {σ : ST} {z : ST × Int32} (hf : C_X0_would Δ σ p1 p2 p3 p4 = some z) : XM l D d EN yX0_would cX0_would 6 (some .int) 846 0 0 [.ref ((hC hs) 0 0 0), .int p1, .int p2, .int p3, .int p4] (hC hs) (xct (LC Δ) (okC Δ) (hC hs) d σ) (Qi D (pz z) (cw (hC hs) (LC Δ) (okC Δ) d)) := by
  refine XM.of (by decide +kernel) (Nat.le_of_ble_eq_true rfl) ?_
  intro p e s m below meth c A ls X _ K _ O hl
  have hl : lv_has ls 6 [(0, .ref ((hC hs) 0 0 0)), (1, .int p1), (2, .int p2), (3, .int p3), (4, .int p4)] := hl
  have hx := X.1.1; have hb := X.1.2.1
  rw [C_X0_would] at hf
  refine lv_aload_n hx hb dX0_would_0 rfl (lv_at hl 0 rfl) ?_
  refine lv_iload_n hx hb dX0_would_1 rfl (lv_at hl 1 rfl) ?_
  refine lv_iload_n hx hb dX0_would_2 rfl (lv_at hl 2 rfl) ?_
  obtain ⟨σ_1, r_2, hg, hf⟩ := bn2_s hf
  refine x_calli (x_runV (As := [.int p1, .int p2]) (rest := []) X K O (xct_obj rfl LC_0) rfl (m_C_X0_areTwo hg) EN_b EN_h (lw_V q808 q810 qs24 q111 q811) 2 rfl hl.1 (Nat.le_of_ble_eq_true rfl) hdV_X0_areTwo ⟨by decide, by decide⟩ ⟨Nat.le_refl _, Nat.le_refl _⟩ dX0_would_3) (fun r u H locs hp O _ => ?_)
  cases hp
  have O : XH D A s.heap (hC hs) (xct (LC Δ) (okC Δ) (hC hs) d σ_1) H locs := O
  refine lv_if_eq (tgt := 26) hx hb dX0_would_6 (by decide) (fun c_3 => ?_) (fun c_3 => ?_)
  · replace hf := if_t c_3 hf
    refine lv_iconst (v := (-1)) hx hb dX0_would_26 (by decide) ?_
    exact x_iret X O rfl _ (Option.some.inj hf).symm rfl dX0_would_27
  · replace hf := if_f c_3 hf
    refine lv_iload_n hx hb dX0_would_9 rfl (lv_at hl 3 rfl) ?_
    obtain ⟨σ_4, r_5, hg, hf⟩ := bn2_s hf
    refine x_calli (x_runS (As := [.int p3]) (rest := []) X K O (m_C_X0_isSize hg) EN_b EN_h (lw_S q812 q813 q111 q814) 1 rfl hl.1 (Nat.le_of_ble_eq_true rfl) hdS_X0_isSize ⟨by decide, by decide⟩ ⟨Nat.le_refl _, Nat.le_refl _⟩ dX0_would_10) (fun r u H locs hp O _ => ?_)
    cases hp
    have O : XH D A s.heap (hC hs) (xct (LC Δ) (okC Δ) (hC hs) d σ_4) H locs := O
    refine lv_if_eq (tgt := 26) hx hb dX0_would_13 (by decide) (fun c_6 => ?_) (fun c_6 => ?_)
    · replace hf := if_t c_6 hf
      refine lv_iconst (v := (-1)) hx hb dX0_would_26 (by decide) ?_
      exact x_iret X O rfl _ (Option.some.inj hf).symm rfl dX0_would_27
    · replace hf := if_f c_6 hf
      refine lv_iload hx hb dX0_would_16 (lv_at hl 4 rfl) ?_
      refine lv_iconst (v := 0) hx hb dX0_would_18 (by decide) ?_
      refine lv_iconst (v := 2) hx hb dX0_would_19 (by decide) ?_
      obtain ⟨σ_7, r_8, hg, hf⟩ := bn2_s hf
      refine x_calli (x_runS (As := [.int p4, .int 0, .int 2]) (rest := []) X K O (m_C_X0_isIn hg) EN_b EN_h (lw_S q444 q445 q111 q446) 3 rfl hl.1 (Nat.le_of_ble_eq_true rfl) hdS_X0_isIn ⟨by decide, by decide⟩ ⟨Nat.le_refl _, Nat.le_refl _⟩ dX0_would_20) (fun r u H locs hp O _ => ?_)
      cases hp
      have O : XH D A s.heap (hC hs) (xct (LC Δ) (okC Δ) (hC hs) d σ_7) H locs := O
      refine lv_if_ne (tgt := 28) hx hb dX0_would_23 (by decide) (fun c_9 => ?_) (fun c_9 => ?_)
      · replace hf := if_f c_9 hf
        refine lv_iload hx hb dX0_would_28 (lv_at hl 4 rfl) ?_
        refine lv_if_ne (tgt := 46) hx hb dX0_would_30 (by decide) (fun c_10 => ?_) (fun c_10 => ?_)
        · replace hf := if_f c_10 hf
          refine lv_iload hx hb dX0_would_46 (lv_at hl 4 rfl) ?_
          refine lv_iconst (v := 1) hx hb dX0_would_48 (by decide) ?_
          refine lv_icmp_ne (tgt := 65) hx hb dX0_would_49 (by decide) (fun c_11 => ?_) (fun c_11 => ?_)
          · replace hf := if_f c_11 hf
            refine lv_aload_n hx hb dX0_would_65 rfl (lv_at hl 0 rfl) ?_
            refine x_gF X K O 6 rfl LC_0 rfl rfl in_X0 (by decide) q379 dX0_would_66 ?_
            refine lv_iload_n hx hb dX0_would_69 rfl (lv_at hl 1 rfl) ?_
            refine lv_iload_n hx hb dX0_would_70 rfl (lv_at hl 3 rfl) ?_
            obtain ⟨σ_12, r_13, hg, hf⟩ := bn2_s hf
            refine x_calli (x_runV (As := [.int p1, .int p3]) (rest := []) X K O (xct_obj rfl LC_1) rfl (m_C_X1_isLawful rfl hg) EN_b EN_h (lw_V q873 q855 q856 q119 q857) 2 rfl hl.1 (Nat.le_of_ble_eq_true rfl) hdV_X1_isLawful ⟨by decide, by decide⟩ ⟨Nat.le_refl _, Nat.le_refl _⟩ dX0_would_71) (fun r u H locs hp O _ => ?_)
            cases hp
            have O : XH D A s.heap (hC hs) (xct (LC Δ) (okC Δ) (hC hs) d σ_12) H locs := O
            exact w_C_X0_would_b74 X K _ _ ls _ _ O (lv_sub hl [] rfl) hf
          · replace hf := if_t c_11 hf
            refine lv_aload_n hx hb dX0_would_52 rfl (lv_at hl 0 rfl) ?_
            refine x_gF X K O 6 rfl LC_0 rfl rfl in_X0 (by decide) q379 dX0_would_53 ?_
            refine lv_iload_n hx hb dX0_would_56 rfl (lv_at hl 1 rfl) ?_
            refine lv_iload_n hx hb dX0_would_57 rfl (lv_at hl 2 rfl) ?_
            refine lv_iload_n hx hb dX0_would_58 rfl (lv_at hl 3 rfl) ?_
            obtain ⟨σ_14, r_15, hg, hf⟩ := bn2_s hf
            refine x_calli (x_runV (As := [.int p1, .int p2, .int p3]) (rest := []) X K O (xct_obj rfl LC_1) rfl (m_C_X1_breaks rfl hg) EN_b EN_h (lw_V q869 q870 q871 q119 q872) 3 rfl hl.1 (Nat.le_of_ble_eq_true rfl) hdV_X1_breaks ⟨by decide, by decide⟩ ⟨Nat.le_refl _, Nat.le_refl _⟩ dX0_would_59) (fun r u H locs hp O _ => ?_)
            cases hp
            have O : XH D A s.heap (hC hs) (xct (LC Δ) (okC Δ) (hC hs) d σ_14) H locs := O
            refine lv_goto (tgt := 74) hx hb dX0_would_62 (by decide) ?_
            exact w_C_X0_would_b74 X K _ _ ls _ _ O (lv_sub hl [] rfl) hf
        · replace hf := if_t c_10 hf
          refine lv_aload_n hx hb dX0_would_33 rfl (lv_at hl 0 rfl) ?_
          refine x_gF X K O 6 rfl LC_0 rfl rfl in_X0 (by decide) q379 dX0_would_34 ?_
          refine lv_iload_n hx hb dX0_would_37 rfl (lv_at hl 1 rfl) ?_
          refine lv_iload_n hx hb dX0_would_38 rfl (lv_at hl 2 rfl) ?_
          refine lv_iload_n hx hb dX0_would_39 rfl (lv_at hl 3 rfl) ?_
          obtain ⟨σ_16, r_17, hg, hf⟩ := bn2_s hf
          refine x_calli (x_runV (As := [.int p1, .int p2, .int p3]) (rest := []) X K O (xct_obj rfl LC_1) rfl (m_C_X1_deals rfl hg) EN_b EN_h (lw_V q815 q816 q817 q119 q818) 3 rfl hl.1 (Nat.le_of_ble_eq_true rfl) hdV_X1_deals ⟨by decide, by decide⟩ ⟨Nat.le_refl _, Nat.le_refl _⟩ dX0_would_40) (fun r u H locs hp O _ => ?_)
          cases hp
          have O : XH D A s.heap (hC hs) (xct (LC Δ) (okC Δ) (hC hs) d σ_16) H locs := O
          refine lv_goto (tgt := 74) hx hb dX0_would_43 (by decide) ?_
          exact w_C_X0_would_b74 X K _ _ ls _ _ O (lv_sub hl [] rfl) hf
      · replace hf := if_t c_9 hf
        refine lv_iconst (v := (-1)) hx hb dX0_would_26 (by decide) ?_
        exact x_iret X O rfl _ (Option.some.inj hf).symm rfl dX0_would_27
def C_X0_deal (Δ : DT) (σ : ST) (p1 : Int32) (p2 : Int32) (p3 : Int32) : Option (ST × Int32) :=
  bn2 (C_X0_areTwo Δ σ p1 p2) (fun σ_1 r_2 => (if r_2 = 0 then some (σ_1, (-2)) else bn2 (C_X0_isSize Δ σ_1 p3) (fun σ_4 r_5 => (if r_5 = 0 then some (σ_4, (-2)) else bn2 (C_X1_deal Δ 0 σ_4 p1 p2 p3) (fun σ_7 r_8 => some (σ_7, r_8))))))
theorem m_C_X0_deal {l : Launch} {D : va_G} {d : Nat → ClassId} {hs : IX} {Δ : DT} {p1 : Int32} {p2 : Int32} {p3 : Int32} {σ : ST} {z : ST × Int32} (hf : C_X0_deal Δ σ p1 p2 p3 = some z) : XM l D d EN yX0_deal cX0_deal 4 (some .int) 847 0 0 [.ref ((hC hs) 0 0 0), .int p1, .int p2, .int p3] (hC hs) (xct (LC Δ) (okC Δ) (hC hs) d σ) (Qi D (pz z) (cw (hC hs) (LC Δ) (okC Δ) d)) := by
  refine XM.of (by decide +kernel) (Nat.le_of_ble_eq_true rfl) ?_
  intro p e s m below meth c A ls X _ K _ O hl
  have hl : lv_has ls 4 [(0, .ref ((hC hs) 0 0 0)), (1, .int p1), (2, .int p2), (3, .int p3)] := hl
  have hx := X.1.1; have hb := X.1.2.1
  rw [C_X0_deal] at hf
  refine lv_aload_n hx hb dX0_deal_0 rfl (lv_at hl 0 rfl) ?_
  refine lv_iload_n hx hb dX0_deal_1 rfl (lv_at hl 1 rfl) ?_
  refine lv_iload_n hx hb dX0_deal_2 rfl (lv_at hl 2 rfl) ?_
  obtain ⟨σ_1, r_2, hg, hf⟩ := bn2_s hf
  refine x_calli (x_runV (As := [.int p1, .int p2]) (rest := []) X K O (xct_obj rfl LC_0) rfl (m_C_X0_areTwo hg) EN_b EN_h (lw_V q808 q810 qs24 q111 q811) 2 rfl hl.1 (Nat.le_of_ble_eq_true rfl) hdV_X0_areTwo ⟨by decide, by decide⟩ ⟨Nat.le_refl _, Nat.le_refl _⟩ dX0_deal_3) (fun r u H locs hp O _ => ?_)
  cases hp
  have O : XH D A s.heap (hC hs) (xct (LC Δ) (okC Δ) (hC hs) d σ_1) H locs := O
  refine lv_if_eq (tgt := 29) hx hb dX0_deal_6 (by decide) (fun c_3 => ?_) (fun c_3 => ?_)
  · replace hf := if_t c_3 hf
    refine lv_bipush (v := (-2)) hx hb dX0_deal_29 (by decide) ?_
    exact x_iret X O rfl _ (Option.some.inj hf).symm rfl dX0_deal_31
  · replace hf := if_f c_3 hf
    refine lv_iload_n hx hb dX0_deal_9 rfl (lv_at hl 3 rfl) ?_
    obtain ⟨σ_4, r_5, hg, hf⟩ := bn2_s hf
    refine x_calli (x_runS (As := [.int p3]) (rest := []) X K O (m_C_X0_isSize hg) EN_b EN_h (lw_S q812 q813 q111 q814) 1 rfl hl.1 (Nat.le_of_ble_eq_true rfl) hdS_X0_isSize ⟨by decide, by decide⟩ ⟨Nat.le_refl _, Nat.le_refl _⟩ dX0_deal_10) (fun r u H locs hp O _ => ?_)
    cases hp
    have O : XH D A s.heap (hC hs) (xct (LC Δ) (okC Δ) (hC hs) d σ_4) H locs := O
    refine lv_if_eq (tgt := 29) hx hb dX0_deal_13 (by decide) (fun c_6 => ?_) (fun c_6 => ?_)
    · replace hf := if_t c_6 hf
      refine lv_bipush (v := (-2)) hx hb dX0_deal_29 (by decide) ?_
      exact x_iret X O rfl _ (Option.some.inj hf).symm rfl dX0_deal_31
    · replace hf := if_f c_6 hf
      refine lv_aload_n hx hb dX0_deal_16 rfl (lv_at hl 0 rfl) ?_
      refine x_gF X K O 6 rfl LC_0 rfl rfl in_X0 (by decide) q379 dX0_deal_17 ?_
      refine lv_iload_n hx hb dX0_deal_20 rfl (lv_at hl 1 rfl) ?_
      refine lv_iload_n hx hb dX0_deal_21 rfl (lv_at hl 2 rfl) ?_
      refine lv_iload_n hx hb dX0_deal_22 rfl (lv_at hl 3 rfl) ?_
      obtain ⟨σ_7, r_8, hg, hf⟩ := bn2_s hf
      refine x_calli (x_runV (As := [.int p1, .int p2, .int p3]) (rest := []) X K O (xct_obj rfl LC_1) rfl (m_C_X1_deal rfl hg) EN_b EN_h (lw_V q878 q879 q880 q119 q881) 3 rfl hl.1 (Nat.le_of_ble_eq_true rfl) hdV_X1_deal ⟨by decide, by decide⟩ ⟨Nat.le_refl _, Nat.le_refl _⟩ dX0_deal_23) (fun r u H locs hp O _ => ?_)
      cases hp
      have O : XH D A s.heap (hC hs) (xct (LC Δ) (okC Δ) (hC hs) d σ_7) H locs := O
      refine lv_goto (tgt := 31) hx hb dX0_deal_26 (by decide) ?_
      exact x_iret X O rfl _ (Option.some.inj hf).symm rfl dX0_deal_31
def C_X0_book (Δ : DT) (σ : ST) (p1 : Int32) (p2 : Int32) : Option (ST × Int32) :=
  bn2 (C_X0_isIn Δ σ p1 0 ((gI σ 1 0 0 6) - 1)) (fun σ_1 r_2 => (if r_2 = 0 then some (σ_1, (-1)) else bn2 (C_X0_isIn Δ σ_1 p2 0 7) (fun σ_4 r_5 => (if r_5 = 0 then some (σ_4, (-1)) else ck (okI p1 300) (ck (okI p2 8) (some (σ_4, (gI σ_4 11 0 (Int32.toNatClampNeg p1) (Int32.toNatClampNeg p2)))))))))
theorem m_C_X0_book {l : Launch} {D : va_G} {d : Nat → ClassId} {hs : IX} {Δ : DT} {p1 : Int32} {p2 : Int32} {σ : ST} {z : ST × Int32} (hf : C_X0_book Δ σ p1 p2 = some z) : XM l D d EN yX0_book cX0_book 3 (some .int) 1 0 0 [.ref ((hC hs) 0 0 0), .int p1, .int p2] (hC hs) (xct (LC Δ) (okC Δ) (hC hs) d σ) (Qi D (pz z) (cw (hC hs) (LC Δ) (okC Δ) d)) := by
  refine XM.of (by decide +kernel) (Nat.le_of_ble_eq_true rfl) ?_
  intro p e s m below meth c A ls X _ K _ O hl
  have hl : lv_has ls 3 [(0, .ref ((hC hs) 0 0 0)), (1, .int p1), (2, .int p2)] := hl
  have hx := X.1.1; have hb := X.1.2.1
  rw [C_X0_book] at hf
  refine lv_iload_n hx hb dX0_book_0 rfl (lv_at hl 1 rfl) ?_
  refine lv_iconst (v := 0) hx hb dX0_book_1 (by decide) ?_
  refine lv_aload_n hx hb dX0_book_2 rfl (lv_at hl 0 rfl) ?_
  refine x_gF X K O 6 rfl LC_0 rfl rfl in_X0 (by decide) q379 dX0_book_3 ?_
  refine x_gIN X K O 6 rfl LC_1 rfl rfl in_X1 (by decide) q306 dX0_book_6 ?_
  refine lv_iconst (v := 1) hx hb dX0_book_9 (by decide) ?_
  refine lv_isub hx hb dX0_book_10 ?_
  obtain ⟨σ_1, r_2, hg, hf⟩ := bn2_s hf
  refine x_calli (x_runS (As := [.int p1, .int 0, .int ((gI σ 1 0 0 6) - 1)]) (rest := []) X K O (m_C_X0_isIn hg) EN_b EN_h (lw_S q444 q445 q111 q446) 3 rfl hl.1 (Nat.le_of_ble_eq_true rfl) hdS_X0_isIn ⟨by decide, by decide⟩ ⟨Nat.le_refl _, Nat.le_refl _⟩ dX0_book_11) (fun r u H locs hp O _ => ?_)
  cases hp
  have O : XH D A s.heap (hC hs) (xct (LC Δ) (okC Δ) (hC hs) d σ_1) H locs := O
  refine lv_if_eq (tgt := 44) hx hb dX0_book_14 (by decide) (fun c_3 => ?_) (fun c_3 => ?_)
  · replace hf := if_t c_3 hf
    refine lv_iconst (v := (-1)) hx hb dX0_book_44 (by decide) ?_
    exact x_iret X O rfl _ (Option.some.inj hf).symm rfl dX0_book_45
  · replace hf := if_f c_3 hf
    refine lv_iload_n hx hb dX0_book_17 rfl (lv_at hl 2 rfl) ?_
    refine lv_iconst (v := 0) hx hb dX0_book_18 (by decide) ?_
    refine lv_bipush (v := 7) hx hb dX0_book_19 (by decide) ?_
    obtain ⟨σ_4, r_5, hg, hf⟩ := bn2_s hf
    refine x_calli (x_runS (As := [.int p2, .int 0, .int 7]) (rest := []) X K O (m_C_X0_isIn hg) EN_b EN_h (lw_S q444 q445 q111 q446) 3 rfl hl.1 (Nat.le_of_ble_eq_true rfl) hdS_X0_isIn ⟨by decide, by decide⟩ ⟨Nat.le_refl _, Nat.le_refl _⟩ dX0_book_21) (fun r u H locs hp O _ => ?_)
    cases hp
    have O : XH D A s.heap (hC hs) (xct (LC Δ) (okC Δ) (hC hs) d σ_4) H locs := O
    refine lv_if_eq (tgt := 44) hx hb dX0_book_24 (by decide) (fun c_6 => ?_) (fun c_6 => ?_)
    · replace hf := if_t c_6 hf
      refine lv_iconst (v := (-1)) hx hb dX0_book_44 (by decide) ?_
      exact x_iret X O rfl _ (Option.some.inj hf).symm rfl dX0_book_45
    · replace hf := if_f c_6 hf
      refine lv_aload_n hx hb dX0_book_27 rfl (lv_at hl 0 rfl) ?_
      refine x_gF X K O 6 rfl LC_0 rfl rfl in_X0 (by decide) q379 dX0_book_28 ?_
      refine x_gFN X K O 1 rfl LC_1 rfl rfl in_X1 (by decide) q297 dX0_book_31 ?_
      refine lv_iload_n hx hb dX0_book_34 rfl (lv_at hl 1 rfl) ?_
      obtain ⟨c_7, hf⟩ := ck_s hf
      refine x_ald X K O 4 rfl LC_6 (by decide) rfl rfl c_7 (j := (Int32.toNatClampNeg p1)) rfl dX0_book_35 ?_
      refine x_gFN X K O 0 (oks_b (B := 1) (b := 0) rfl (okI_lt c_7)) LC_10 rfl rfl in_X4 (by decide) q289 dX0_book_36 ?_
      refine lv_iload_n hx hb dX0_book_39 rfl (lv_at hl 2 rfl) ?_
      obtain ⟨c_8, hf⟩ := ck_s hf
      refine x_ild X K O (oks_b (B := 1) (b := 0) rfl (okI_lt c_7)) LC_11 c_8 (j := (Int32.toNatClampNeg p2)) rfl dX0_book_40 ?_
      refine lv_goto (tgt := 45) hx hb dX0_book_41 (by decide) ?_
      exact x_iret X O rfl _ (Option.some.inj hf).symm rfl dX0_book_45
theorem hdV_X1_goesBy : yX1_goesBy.cls = RX1 ∧ (yX1_goesBy.cls ≠ "java/lang/invoke/MethodHandle" ∧ yX1_goesBy.cls ≠ "java/lang/invoke/VarHandle" ∧ (parseMethodDescriptor yX1_goesBy.desc).map (fun d => d.parameters.length) = some 0) := by decide +kernel
def C_X0_years_b37 (Δ : DT) : Nat → ST → Int32 → Int32 → Int32 → Option (ST × Int32)
  | 0, _, _, _, _ => none
  | n + 1, σ, x1, x2, x3 =>
    (if x1 ≤ x3 then some (σ, ((gI σ 1 0 0 6) - x2)) else bn1 (C_X1_goesBy Δ 0 σ) (fun σ_2 => lt1 (x3 + 1) (fun x3_3 => (C_X0_years_b37 Δ n) σ_2 x1 x2 x3_3)))
theorem w_C_X0_years_b37 {Δ : DT} (X : FX p m c meth s args RX0 cX0_years 4 (some .int)) (K : XK D d A s) {z : ST × Int32} : ∀ (n : Nat) (σ : ST) (x1 : Int32) (x2 : Int32) (x3 : Int32) (ls : Array Slot) (H : Heap) (locs : List Loc), XH D A s.heap (hC hs) (xct (LC Δ) (okC Δ) (hC hs) d σ) H locs → lv_has ls 4 [(0, .ref ((hC hs) 0 0 0)), (1, .int x1), (2, .int x2), (3, .int x3)] → C_X0_years_b37 Δ n σ x1 x2 x3 = some z → W p l e (rmD 848 0 0) s m args below meth c H locs 0 0 (MQ below (Qi D (pz z) (cw (hC hs) (LC Δ) (okC Δ) d) A) args s 0 0 A) (F0 m 37 ls []) := by
  have hx := X.1.1; have hb := X.1.2.1
  intro n
  induction n with
  | zero =>
    intro σ x1 x2 x3 ls H locs O hl hf
    exact absurd hf (fun q => by cases q)
  | succ n ih =>
    intro σ x1 x2 x3 ls H locs O hl hf
    rw [C_X0_years_b37] at hf
    refine lv_iload_n hx hb dX0_years_37 rfl (lv_at hl 3 rfl) ?_
    refine lv_iload_n hx hb dX0_years_38 rfl (lv_at hl 1 rfl) ?_
    refine lv_icmp_ge (tgt := 55) hx hb dX0_years_39 (by decide) (fun c_1 => ?_) (fun c_1 => ?_)
    · replace hf := if_t c_1 hf
      refine lv_aload_n hx hb dX0_years_55 rfl (lv_at hl 0 rfl) ?_
      refine x_gF X K O 6 rfl LC_0 rfl rfl in_X0 (by decide) q379 dX0_years_56 ?_
      refine x_gIN X K O 6 rfl LC_1 rfl rfl in_X1 (by decide) q306 dX0_years_59 ?_
      refine lv_iload_n hx hb dX0_years_62 rfl (lv_at hl 2 rfl) ?_
      refine lv_isub hx hb dX0_years_63 ?_
      exact x_iret X O rfl _ (Option.some.inj hf).symm rfl dX0_years_64
    · replace hf := if_f c_1 hf
      refine lv_aload_n hx hb dX0_years_42 rfl (lv_at hl 0 rfl) ?_
      refine x_gF X K O 6 rfl LC_0 rfl rfl in_X0 (by decide) q379 dX0_years_43 ?_
      obtain ⟨σ_2, hg, hf⟩ := bn1_s hf
      refine x_callv (x_runV (As := []) (rest := []) X K O (xct_obj rfl LC_1) rfl (m_C_X1_goesBy rfl hg) EN_b EN_h (lw_V q920 q921 q922 q119 q923) 0 rfl hl.1 (Nat.le_of_ble_eq_true rfl) hdV_X1_goesBy ⟨by decide, by decide⟩ ⟨Nat.le_refl _, Nat.le_refl _⟩ dX0_years_46) (fun u H locs hp O _ => ?_)
      cases hp
      have O : XH D A s.heap (hC hs) (xct (LC Δ) (okC Δ) (hC hs) d σ_2) H locs := O
      obtain ⟨x3_3, ex3_3, hf⟩ := lt1_s hf
      refine lv_iinc (v := x3_3) (lv' := [(3, .int x3_3), (0, .ref ((hC hs) 0 0 0)), (1, .int x1), (2, .int x2)]) hx hb dX0_years_49 hl (k := 3) rfl (by rw [ex3_3]; rfl) (by decide) rfl (fun ls hl => ?_)
      refine lv_goto (tgt := 37) hx hb dX0_years_52 (by decide) ?_
      exact ih _ _ _ _ ls _ _ O (lv_sub hl [1, 2, 3, 0] rfl) hf
def C_X0_years (Δ : DT) (σ : ST) (p1 : Int32) : Option (ST × Int32) :=
  bn2 (C_X0_isIn Δ σ p1 1 60) (fun σ_1 r_2 => (if r_2 = 0 then some (σ_1, (-1)) else (if ((gI σ_1 1 0 0 7) + p1) ≤ 999 then lt1 (gI σ_1 1 0 0 6) (fun x2_5 => C_X0_years_b37 Δ FUEL σ_1 p1 x2_5 0) else some (σ_1, (-1)))))
theorem m_C_X0_years {l : Launch} {D : va_G} {d : Nat → ClassId} {hs : IX} {Δ : DT} {p1 : Int32} {σ : ST} {z : ST × Int32} (hf : C_X0_years Δ σ p1 = some z) : XM l D d EN yX0_years cX0_years 4 (some .int) 848 0 0 [.ref ((hC hs) 0 0 0), .int p1] (hC hs) (xct (LC Δ) (okC Δ) (hC hs) d σ) (Qi D (pz z) (cw (hC hs) (LC Δ) (okC Δ) d)) := by
  refine XM.of (by decide +kernel) (Nat.le_of_ble_eq_true rfl) ?_
  intro p e s m below meth c A ls X _ K _ O hl
  have hl : lv_has ls 4 [(0, .ref ((hC hs) 0 0 0)), (1, .int p1)] := hl
  have hx := X.1.1; have hb := X.1.2.1
  rw [C_X0_years] at hf
  refine lv_iload_n hx hb dX0_years_0 rfl (lv_at hl 1 rfl) ?_
  refine lv_iconst (v := 1) hx hb dX0_years_1 (by decide) ?_
  refine lv_bipush (v := 60) hx hb dX0_years_2 (by decide) ?_
  obtain ⟨σ_1, r_2, hg, hf⟩ := bn2_s hf
  refine x_calli (x_runS (As := [.int p1, .int 1, .int 60]) (rest := []) X K O (m_C_X0_isIn hg) EN_b EN_h (lw_S q444 q445 q111 q446) 3 rfl hl.1 (Nat.le_of_ble_eq_true rfl) hdS_X0_isIn ⟨by decide, by decide⟩ ⟨Nat.le_refl _, Nat.le_refl _⟩ dX0_years_4) (fun r u H locs hp O _ => ?_)
  cases hp
  have O : XH D A s.heap (hC hs) (xct (LC Δ) (okC Δ) (hC hs) d σ_1) H locs := O
  refine lv_if_eq (tgt := 25) hx hb dX0_years_7 (by decide) (fun c_3 => ?_) (fun c_3 => ?_)
  · replace hf := if_t c_3 hf
    refine lv_iconst (v := (-1)) hx hb dX0_years_25 (by decide) ?_
    exact x_iret X O rfl _ (Option.some.inj hf).symm rfl dX0_years_26
  · replace hf := if_f c_3 hf
    refine lv_aload_n hx hb dX0_years_10 rfl (lv_at hl 0 rfl) ?_
    refine x_gF X K O 6 rfl LC_0 rfl rfl in_X0 (by decide) q379 dX0_years_11 ?_
    refine x_gIN X K O 7 rfl LC_1 rfl rfl in_X1 (by decide) q309 dX0_years_14 ?_
    refine lv_iload_n hx hb dX0_years_17 rfl (lv_at hl 1 rfl) ?_
    refine lv_iadd hx hb dX0_years_18 ?_
    refine lv_sipush (v := 999) hx hb dX0_years_19 (by decide) ?_
    refine lv_icmp_le (tgt := 27) hx hb dX0_years_22 (by decide) (fun c_4 => ?_) (fun c_4 => ?_)
    · replace hf := if_t c_4 hf
      refine lv_aload_n hx hb dX0_years_27 rfl (lv_at hl 0 rfl) ?_
      refine x_gF X K O 6 rfl LC_0 rfl rfl in_X0 (by decide) q379 dX0_years_28 ?_
      refine x_gIN X K O 6 rfl LC_1 rfl rfl in_X1 (by decide) q306 dX0_years_31 ?_
      obtain ⟨x2_5, ex2_5, hf⟩ := lt1_s hf
      refine x_top (w := .int x2_5) (by rw [ex2_5]) ?_
      refine lv_istore_n (lv' := [(2, .int x2_5), (0, .ref ((hC hs) 0 0 0)), (1, .int p1)]) hx hb dX0_years_34 rfl hl (by decide) rfl (fun ls hl => ?_)
      refine lv_iconst (v := 0) hx hb dX0_years_35 (by decide) ?_
      refine lv_istore_n (lv' := [(3, .int 0), (2, .int x2_5), (0, .ref ((hC hs) 0 0 0)), (1, .int p1)]) hx hb dX0_years_36 rfl hl (by decide) rfl (fun ls hl => ?_)
      exact w_C_X0_years_b37 X K _ _ _ _ _ ls _ _ O (lv_sub hl [2, 3, 1, 0] rfl) hf
    · replace hf := if_f c_4 hf
      refine lv_iconst (v := (-1)) hx hb dX0_years_25 (by decide) ?_
      exact x_iret X O rfl _ (Option.some.inj hf).symm rfl dX0_years_26
def C_X0_keeping (Δ : DT) (σ : ST) (p1 : Int32) (p2 : Int32) (p3 : Int32) : Option (ST × Int64) :=
  ck ((okC Δ) 12 (gR σ 0 0 0 9) 0) (ck (okI (imin 24 (p1 + 1)) 25) (some (σ, (((1000 * (Int32.toInt64 (gI σ 4 0 0 0))) * (p2.toInt64)) + (((p3.toInt64) * (gL σ 12 (gR σ 0 0 0 9) 0 (Int32.toNatClampNeg (imin 24 (p1 + 1))))) / 1000)))))
theorem m_C_X0_keeping {l : Launch} {D : va_G} {d : Nat → ClassId} {hs : IX} {Δ : DT} {p1 : Int32} {p2 : Int32} {p3 : Int32} {σ : ST} {z : ST × Int64} (hf : C_X0_keeping Δ σ p1 p2 p3 = some z) : XM l D d EN yX0_keeping cX0_keeping 4 (some .long) 1 0 0 [.ref ((hC hs) 0 0 0), .int p1, .int p2, .int p3] (hC hs) (xct (LC Δ) (okC Δ) (hC hs) d σ) (Ql D (pz z) (cw (hC hs) (LC Δ) (okC Δ) d)) := by
  refine XM.of (by decide +kernel) (Nat.le_of_ble_eq_true rfl) ?_
  intro p e s m below meth c A ls X _ K _ O hl
  have hl : lv_has ls 4 [(0, .ref ((hC hs) 0 0 0)), (1, .int p1), (2, .int p2), (3, .int p3)] := hl
  have hx := X.1.1; have hb := X.1.2.1
  rw [C_X0_keeping] at hf
  refine lv_ldc2 (v := 1000) hx hb X.1.2.2.2.1 (X.1.2.2.2.2 _ q953) dX0_keeping_0 ?_
  refine lv_aload_n hx hb dX0_keeping_3 rfl (lv_at hl 0 rfl) ?_
  refine x_gF X K O 6 rfl LC_0 rfl rfl in_X0 (by decide) q379 dX0_keeping_4 ?_
  refine x_gFN X K O 2 rfl LC_1 rfl rfl in_X1 (by decide) q300 dX0_keeping_7 ?_
  refine lv_iconst (v := 0) hx hb dX0_keeping_10 (by decide) ?_
  refine x_ild X K O rfl LC_4 (by decide) (j := 0) rfl dX0_keeping_11 ?_
  refine lv_i2l (v := (Int32.toInt64 (gI σ 4 0 0 0))) hx hb dX0_keeping_12 rfl ?_
  refine lv_lmul hx hb dX0_keeping_13 ?_
  refine lv_iload_n hx hb dX0_keeping_14 rfl (lv_at hl 2 rfl) ?_
  refine lv_i2l (v := (p2.toInt64)) hx hb dX0_keeping_15 rfl ?_
  refine lv_lmul hx hb dX0_keeping_16 ?_
  refine lv_iload_n hx hb dX0_keeping_17 rfl (lv_at hl 3 rfl) ?_
  refine lv_i2l (v := (p3.toInt64)) hx hb dX0_keeping_18 rfl ?_
  refine lv_aload_n hx hb dX0_keeping_19 rfl (lv_at hl 0 rfl) ?_
  obtain ⟨c_1, hf⟩ := ck_s hf
  refine x_gR X K O 9 rfl LC_0 rfl rfl in_X0 (by decide) q383 dX0_keeping_20 ?_
  refine lv_bipush (v := 24) hx hb dX0_keeping_23 (by decide) ?_
  refine lv_iload_n hx hb dX0_keeping_25 rfl (lv_at hl 1 rfl) ?_
  refine lv_iconst (v := 1) hx hb dX0_keeping_26 (by decide) ?_
  refine lv_iadd hx hb dX0_keeping_27 ?_
  refine va_mmin hx hb (X.1.2.2.1.trans hl.1.symm) X.1.2.2.2.1 (X.1.2.2.2.2 _ q954) (X.1.2.2.2.2 _ q230) (X.1.2.2.2.2 _ q116) (X.1.2.2.2.2 _ q231) (by decide) (Nat.le_of_ble_eq_true rfl) (Nat.le_refl _) (Nat.le_refl _) dX0_keeping_28 ?_
  refine x_top (w := .int (imin 24 (p1 + 1))) rfl ?_
  obtain ⟨c_2, hf⟩ := ck_s hf
  refine x_lld X K O c_1 LC_12 c_2 (j := (Int32.toNatClampNeg (imin 24 (p1 + 1)))) rfl dX0_keeping_31 ?_
  refine lv_lmul hx hb dX0_keeping_32 ?_
  refine lv_ldc2 (v := 1000) hx hb X.1.2.2.2.1 (X.1.2.2.2.2 _ q953) dX0_keeping_33 ?_
  refine lv_ldiv hx hb dX0_keeping_36 (by decide) ?_
  refine lv_ladd hx hb dX0_keeping_37 ?_
  exact x_lret X O rfl _ (Option.some.inj hf).symm rfl dX0_keeping_38
def C_X0_breaking (Δ : DT) (σ : ST) (p1 : Int32) (p2 : Int32) (p3 : Int32) (p4 : Int32) : Option (ST × Int64) :=
  (if p4 ≤ p1 then ck ((okC Δ) 12 (gR σ 0 0 0 9) 0) (ck (okI (p1 - p4) 25) (some (σ, (((1000 * (Int32.toInt64 (gI σ 4 0 0 1))) * (p2.toInt64)) + (((p3.toInt64) * (gL σ 12 (gR σ 0 0 0 9) 0 (Int32.toNatClampNeg (p1 - p4)))) / 1000))))) else some (σ, (-1)))
theorem m_C_X0_breaking {l : Launch} {D : va_G} {d : Nat → ClassId} {hs : IX} {Δ : DT} {p1 : Int32} {p2 : Int32} {p3 : Int32} {p4 : Int32} {σ : ST} {z : ST × Int64} (hf : C_X0_breaking Δ σ p1 p2 p3 p4 = some z) : XM l D d EN yX0_breaking cX0_breaking 5 (some .long) 0 0 0 [.ref ((hC hs) 0 0 0), .int p1, .int p2, .int p3, .int p4] (hC hs) (xct (LC Δ) (okC Δ) (hC hs) d σ) (Ql D (pz z) (cw (hC hs) (LC Δ) (okC Δ) d)) := by
  refine XM.of (by decide +kernel) (Nat.le_of_ble_eq_true rfl) ?_
  intro p e s m below meth c A ls X _ K _ O hl
  have hl : lv_has ls 5 [(0, .ref ((hC hs) 0 0 0)), (1, .int p1), (2, .int p2), (3, .int p3), (4, .int p4)] := hl
  have hx := X.1.1; have hb := X.1.2.1
  rw [C_X0_breaking] at hf
  refine lv_iload_n hx hb dX0_breaking_0 rfl (lv_at hl 1 rfl) ?_
  refine lv_iload hx hb dX0_breaking_1 (lv_at hl 4 rfl) ?_
  refine lv_icmp_ge (tgt := 12) hx hb dX0_breaking_3 (by decide) (fun c_1 => ?_) (fun c_1 => ?_)
  · replace hf := if_t c_1 hf
    refine lv_ldc2 (v := 1000) hx hb X.1.2.2.2.1 (X.1.2.2.2.2 _ q953) dX0_breaking_12 ?_
    refine lv_aload_n hx hb dX0_breaking_15 rfl (lv_at hl 0 rfl) ?_
    refine x_gF X K O 6 rfl LC_0 rfl rfl in_X0 (by decide) q379 dX0_breaking_16 ?_
    refine x_gFN X K O 2 rfl LC_1 rfl rfl in_X1 (by decide) q300 dX0_breaking_19 ?_
    refine lv_iconst (v := 1) hx hb dX0_breaking_22 (by decide) ?_
    refine x_ild X K O rfl LC_4 (by decide) (j := 1) rfl dX0_breaking_23 ?_
    refine lv_i2l (v := (Int32.toInt64 (gI σ 4 0 0 1))) hx hb dX0_breaking_24 rfl ?_
    refine lv_lmul hx hb dX0_breaking_25 ?_
    refine lv_iload_n hx hb dX0_breaking_26 rfl (lv_at hl 2 rfl) ?_
    refine lv_i2l (v := (p2.toInt64)) hx hb dX0_breaking_27 rfl ?_
    refine lv_lmul hx hb dX0_breaking_28 ?_
    refine lv_iload_n hx hb dX0_breaking_29 rfl (lv_at hl 3 rfl) ?_
    refine lv_i2l (v := (p3.toInt64)) hx hb dX0_breaking_30 rfl ?_
    refine lv_aload_n hx hb dX0_breaking_31 rfl (lv_at hl 0 rfl) ?_
    obtain ⟨c_2, hf⟩ := ck_s hf
    refine x_gR X K O 9 rfl LC_0 rfl rfl in_X0 (by decide) q383 dX0_breaking_32 ?_
    refine lv_iload_n hx hb dX0_breaking_35 rfl (lv_at hl 1 rfl) ?_
    refine lv_iload hx hb dX0_breaking_36 (lv_at hl 4 rfl) ?_
    refine lv_isub hx hb dX0_breaking_38 ?_
    obtain ⟨c_3, hf⟩ := ck_s hf
    refine x_lld X K O c_2 LC_12 c_3 (j := (Int32.toNatClampNeg (p1 - p4))) rfl dX0_breaking_39 ?_
    refine lv_lmul hx hb dX0_breaking_40 ?_
    refine lv_ldc2 (v := 1000) hx hb X.1.2.2.2.1 (X.1.2.2.2.2 _ q953) dX0_breaking_41 ?_
    refine lv_ldiv hx hb dX0_breaking_44 (by decide) ?_
    refine lv_ladd hx hb dX0_breaking_45 ?_
    exact x_lret X O rfl _ (Option.some.inj hf).symm rfl dX0_breaking_46
  · replace hf := if_f c_1 hf
    refine lv_ldc2 (v := (-1)) hx hb X.1.2.2.2.1 (X.1.2.2.2.2 _ q959) dX0_breaking_6 ?_
    refine lv_goto (tgt := 46) hx hb dX0_breaking_9 (by decide) ?_
    exact x_lret X O rfl _ (Option.some.inj hf).symm rfl dX0_breaking_46
theorem hdV_X0_breaking : yX0_breaking.cls = RX0 ∧ (yX0_breaking.cls ≠ "java/lang/invoke/MethodHandle" ∧ yX0_breaking.cls ≠ "java/lang/invoke/VarHandle" ∧ (parseMethodDescriptor yX0_breaking.desc).map (fun d => d.parameters.length) = some 4) := by decide +kernel
theorem hdV_X0_keeping : yX0_keeping.cls = RX0 ∧ (yX0_keeping.cls ≠ "java/lang/invoke/MethodHandle" ∧ yX0_keeping.cls ≠ "java/lang/invoke/VarHandle" ∧ (parseMethodDescriptor yX0_keeping.desc).map (fun d => d.parameters.length) = some 3) := by decide +kernel
def C_X0_worths_b49 (Δ : DT) (kb27 : ST → Int32 → Int32 → Int32 → Int32 → Option (ST)) (kb36 : ST → Int32 → Int32 → Int32 → Int32 → Int32 → Option (ST)) : Nat → ST → Int32 → Int32 → Int32 → Int32 → Int32 → Int64 → Int32 → Option (ST)
  | 0, _, _, _, _, _, _, _, _ => none
  | n + 1, σ, x1, x2, x3, x4, x5, x6, x8 =>
    (if 12 < x8 then ck ((okC Δ) 12 (gR σ 0 0 0 10) 0) (bn2 (C_X1_weights Δ 0 σ) (fun σ_3 r_4 => ck (decide (¬ (r_4.toInt64) = 0)) (ck (okI x5 25) (lt1 (sL σ_3 12 (gR σ 0 0 0 10) 0 (Int32.toNatClampNeg x5) (x6 / (r_4.toInt64))) (fun σ_7 => lt1 (x5 + 1) (fun x5_8 => kb36 σ_7 x1 x2 x3 x4 x5_8)))))) else ck (okI (10 + x8) 23) (bn2 (C_X0_keeping Δ σ x5 x8 x2) (fun σ_10 r_11 => bn2 (C_X0_breaking Δ σ_10 x5 x8 x2 x3) (fun σ_12 r_13 => lt1 (x6 + ((Int32.toInt64 (gI σ 4 0 0 (Int32.toNatClampNeg (10 + x8)))) * (lmax r_11 r_13))) (fun x6_14 => lt1 (x8 + 1) (fun x8_15 => (C_X0_worths_b49 Δ kb27 kb36 n) σ_12 x1 x2 x3 x4 x5 x6_14 x8_15))))))
theorem w_C_X0_worths_b49 {Δ : DT} (X : FX p m c meth s args RX0 cX0_worths 9 none) (K : XK D d A s) {z : ST} {kb27 : ST → Int32 → Int32 → Int32 → Int32 → Option (ST)} (hkb27 : ∀ (σ : ST) (x1 : Int32) (x2 : Int32) (x3 : Int32) (x4 : Int32) (ls : Array Slot) (H : Heap) (locs : List Loc), XH D A s.heap (hC hs) (xct (LC Δ) (okC Δ) (hC hs) d σ) H locs → lv_has ls 9 [(0, .ref ((hC hs) 0 0 0)), (1, .int x1), (2, .int x2), (3, .int x3), (4, .int x4)] → kb27 σ x1 x2 x3 x4 = some z → W p l e (rmD 2 0 0) s m args below meth c H locs 0 0 (MQ below (Qv D (pu z) (cw (hC hs) (LC Δ) (okC Δ) d) A) args s 0 0 A) (F0 m 27 ls [])) {kb36 : ST → Int32 → Int32 → Int32 → Int32 → Int32 → Option (ST)} (hkb36 : ∀ (σ : ST) (x1 : Int32) (x2 : Int32) (x3 : Int32) (x4 : Int32) (x5 : Int32) (ls : Array Slot) (H : Heap) (locs : List Loc), XH D A s.heap (hC hs) (xct (LC Δ) (okC Δ) (hC hs) d σ) H locs → lv_has ls 9 [(0, .ref ((hC hs) 0 0 0)), (1, .int x1), (2, .int x2), (3, .int x3), (4, .int x4), (5, .int x5)] → kb36 σ x1 x2 x3 x4 x5 = some z → W p l e (rmD 2 0 0) s m args below meth c H locs 0 0 (MQ below (Qv D (pu z) (cw (hC hs) (LC Δ) (okC Δ) d) A) args s 0 0 A) (F0 m 36 ls [])) : ∀ (n : Nat) (σ : ST) (x1 : Int32) (x2 : Int32) (x3 : Int32) (x4 : Int32) (x5 : Int32) (x6 : Int64) (x8 : Int32) (ls : Array Slot) (H : Heap) (locs : List Loc), XH D A s.heap (hC hs) (xct (LC Δ) (okC Δ) (hC hs) d σ) H locs → lv_has ls 9 [(0, .ref ((hC hs) 0 0 0)), (1, .int x1), (2, .int x2), (3, .int x3), (4, .int x4), (5, .int x5), (6, .long x6), (8, .int x8)] → C_X0_worths_b49 Δ kb27 kb36 n σ x1 x2 x3 x4 x5 x6 x8 = some z → W p l e (rmD 2 0 0) s m args below meth c H locs 0 0 (MQ below (Qv D (pu z) (cw (hC hs) (LC Δ) (okC Δ) d) A) args s 0 0 A) (F0 m 49 ls []) := by
  have hx := X.1.1; have hb := X.1.2.1
  intro n
  induction n with
  | zero =>
    intro σ x1 x2 x3 x4 x5 x6 x8 ls H locs O hl hf
    exact absurd hf (fun q => by cases q)
  | succ n ih =>
    intro σ x1 x2 x3 x4 x5 x6 x8 ls H locs O hl hf
    rw [C_X0_worths_b49] at hf
    refine lv_iload hx hb dX0_worths_49 (lv_at hl 7 rfl) ?_
    refine lv_bipush (v := 12) hx hb dX0_worths_51 (by decide) ?_
    refine lv_icmp_gt (tgt := 104) hx hb dX0_worths_53 (by decide) (fun c_1 => ?_) (fun c_1 => ?_)
    · replace hf := if_t c_1 hf
      refine lv_aload_n hx hb dX0_worths_104 rfl (lv_at hl 0 rfl) ?_
      obtain ⟨c_2, hf⟩ := ck_s hf
      refine x_gR X K O 10 rfl LC_0 rfl rfl in_X0 (by decide) q384 dX0_worths_105 ?_
      refine lv_iload hx hb dX0_worths_108 (lv_at hl 5 rfl) ?_
      refine lv_lload hx hb dX0_worths_110 (lv_at hl 6 rfl) ?_
      refine lv_aload_n hx hb dX0_worths_112 rfl (lv_at hl 0 rfl) ?_
      refine x_gF X K O 6 rfl LC_0 rfl rfl in_X0 (by decide) q379 dX0_worths_113 ?_
      obtain ⟨σ_3, r_4, hg, hf⟩ := bn2_s hf
      refine x_calli (x_runV (As := []) (rest := [.long x6, .int x5, .ref ((hC hs) 12 (gR σ 0 0 0 10) 0)]) X K O (xct_obj rfl LC_1) rfl (m_C_X1_weights rfl hg) EN_b EN_h (lw_V q943 q925 q926 q119 q927) 0 rfl hl.1 (Nat.le_of_ble_eq_true rfl) hdV_X1_weights ⟨by decide, by decide⟩ ⟨Nat.le_refl _, Nat.le_refl _⟩ dX0_worths_116) (fun r u H locs hp O _ => ?_)
      cases hp
      have O : XH D A s.heap (hC hs) (xct (LC Δ) (okC Δ) (hC hs) d σ_3) H locs := O
      refine lv_i2l (v := (r_4.toInt64)) hx hb dX0_worths_119 rfl ?_
      obtain ⟨c_5, hf⟩ := ck_s hf
      refine lv_ldiv hx hb dX0_worths_120 (of_decide_eq_true c_5) ?_
      obtain ⟨c_6, hf⟩ := ck_s hf
      obtain ⟨σ_7, eσ_7, hf⟩ := lt1_s hf
      refine x_lst X K O c_2 LC_12 c_6 (j := (Int32.toNatClampNeg x5)) rfl dX0_worths_121 (fun H locs O => ?_)
      rw [← eσ_7] at O
      obtain ⟨x5_8, ex5_8, hf⟩ := lt1_s hf
      refine lv_iinc (v := x5_8) (lv' := [(5, .int x5_8), (0, .ref ((hC hs) 0 0 0)), (1, .int x1), (2, .int x2), (3, .int x3), (4, .int x4), (6, .long x6), (8, .int x8)]) hx hb dX0_worths_122 hl (k := 5) rfl (by rw [ex5_8]; rfl) (by decide) rfl (fun ls hl => ?_)
      refine lv_goto (tgt := 36) hx hb dX0_worths_125 (by decide) ?_
      exact hkb36 _ _ _ _ _ _ ls _ _ O (lv_sub hl [1, 2, 3, 4, 5, 0] rfl) hf
    · replace hf := if_f c_1 hf
      refine lv_lload hx hb dX0_worths_56 (lv_at hl 6 rfl) ?_
      refine lv_aload_n hx hb dX0_worths_58 rfl (lv_at hl 0 rfl) ?_
      refine x_gF X K O 6 rfl LC_0 rfl rfl in_X0 (by decide) q379 dX0_worths_59 ?_
      refine x_gFN X K O 2 rfl LC_1 rfl rfl in_X1 (by decide) q300 dX0_worths_62 ?_
      refine lv_bipush (v := 10) hx hb dX0_worths_65 (by decide) ?_
      refine lv_iload hx hb dX0_worths_67 (lv_at hl 7 rfl) ?_
      refine lv_iadd hx hb dX0_worths_69 ?_
      obtain ⟨c_9, hf⟩ := ck_s hf
      refine x_ild X K O rfl LC_4 c_9 (j := (Int32.toNatClampNeg (10 + x8))) rfl dX0_worths_70 ?_
      refine lv_i2l (v := (Int32.toInt64 (gI σ 4 0 0 (Int32.toNatClampNeg (10 + x8))))) hx hb dX0_worths_71 rfl ?_
      refine lv_aload_n hx hb dX0_worths_72 rfl (lv_at hl 0 rfl) ?_
      refine lv_iload hx hb dX0_worths_73 (lv_at hl 5 rfl) ?_
      refine lv_iload hx hb dX0_worths_75 (lv_at hl 7 rfl) ?_
      refine lv_iload_n hx hb dX0_worths_77 rfl (lv_at hl 2 rfl) ?_
      obtain ⟨σ_10, r_11, hg, hf⟩ := bn2_s hf
      refine x_calll (x_runV (As := [.int x5, .int x8, .int x2]) (rest := [.long (Int32.toInt64 (gI σ 4 0 0 (Int32.toNatClampNeg (10 + x8)))), .long x6]) X K O (xct_obj rfl LC_0) rfl (m_C_X0_keeping hg) EN_b EN_h (lw_V q949 q951 qs30 q111 q952) 3 rfl hl.1 (Nat.le_of_ble_eq_true rfl) hdV_X0_keeping ⟨by decide, by decide⟩ ⟨Nat.le_refl _, Nat.le_refl _⟩ dX0_worths_78) (fun r u H locs hp O _ => ?_)
      cases hp
      have O : XH D A s.heap (hC hs) (xct (LC Δ) (okC Δ) (hC hs) d σ_10) H locs := O
      refine lv_aload_n hx hb dX0_worths_81 rfl (lv_at hl 0 rfl) ?_
      refine lv_iload hx hb dX0_worths_82 (lv_at hl 5 rfl) ?_
      refine lv_iload hx hb dX0_worths_84 (lv_at hl 7 rfl) ?_
      refine lv_iload_n hx hb dX0_worths_86 rfl (lv_at hl 2 rfl) ?_
      refine lv_iload_n hx hb dX0_worths_87 rfl (lv_at hl 3 rfl) ?_
      obtain ⟨σ_12, r_13, hg, hf⟩ := bn2_s hf
      refine x_calll (x_runV (As := [.int x5, .int x8, .int x2, .int x3]) (rest := [.long r_11, .long (Int32.toInt64 (gI σ 4 0 0 (Int32.toNatClampNeg (10 + x8)))), .long x6]) X K O (xct_obj rfl LC_0) rfl (m_C_X0_breaking hg) EN_b EN_h (lw_V q955 q957 qs31 q111 q958) 4 rfl hl.1 (Nat.le_of_ble_eq_true rfl) hdV_X0_breaking ⟨by decide, by decide⟩ ⟨Nat.le_refl _, Nat.le_refl _⟩ dX0_worths_88) (fun r u H locs hp O _ => ?_)
      cases hp
      have O : XH D A s.heap (hC hs) (xct (LC Δ) (okC Δ) (hC hs) d σ_12) H locs := O
      refine va_mmax_long hx hb (X.1.2.2.1.trans hl.1.symm) X.1.2.2.2.1 (X.1.2.2.2.2 _ q960) (X.1.2.2.2.2 _ q961) (X.1.2.2.2.2 _ q116) (X.1.2.2.2.2 _ q962) (by decide) (Nat.le_of_ble_eq_true rfl) (Nat.le_refl _) (Nat.le_refl _) dX0_worths_91 ?_
      refine x_top (w := .long (lmax r_11 r_13)) rfl ?_
      refine lv_lmul hx hb dX0_worths_94 ?_
      refine lv_ladd hx hb dX0_worths_95 ?_
      obtain ⟨x6_14, ex6_14, hf⟩ := lt1_s hf
      refine x_top (w := .long x6_14) (by rw [ex6_14]) ?_
      refine lv_lstore (lv' := [(6, .long x6_14), (0, .ref ((hC hs) 0 0 0)), (1, .int x1), (2, .int x2), (3, .int x3), (4, .int x4), (5, .int x5), (8, .int x8)]) hx hb dX0_worths_96 hl (by decide) rfl (fun ls hl => ?_)
      obtain ⟨x8_15, ex8_15, hf⟩ := lt1_s hf
      refine lv_iinc (v := x8_15) (lv' := [(8, .int x8_15), (6, .long x6_14), (0, .ref ((hC hs) 0 0 0)), (1, .int x1), (2, .int x2), (3, .int x3), (4, .int x4), (5, .int x5)]) hx hb dX0_worths_98 hl (k := 7) rfl (by rw [ex8_15]; rfl) (by decide) rfl (fun ls hl => ?_)
      refine lv_goto (tgt := 49) hx hb dX0_worths_101 (by decide) ?_
      exact ih _ _ _ _ _ _ _ _ ls _ _ O (lv_sub hl [2, 3, 4, 5, 6, 7, 1, 0] rfl) hf
def C_X0_worths_b36 (Δ : DT) (kb27 : ST → Int32 → Int32 → Int32 → Int32 → Option (ST)) : Nat → ST → Int32 → Int32 → Int32 → Int32 → Int32 → Option (ST)
  | 0, _, _, _, _, _, _ => none
  | n + 1, σ, x1, x2, x3, x4, x5 =>
    (if 24 < x5 then ck ((okC Δ) 12 (gR σ 0 0 0 9) 0) (ck ((okC Δ) 12 (gR σ 0 0 0 10) 0) (lt1 (sR σ 0 0 0 9 (gR σ 0 0 0 10)) (fun σ_4 => lt1 (sR σ_4 0 0 0 10 (gR σ 0 0 0 9)) (fun σ_5 => lt1 (x4 + 1) (fun x4_6 => kb27 σ_5 x1 x2 x3 x4_6))))) else C_X0_worths_b49 Δ kb27 (C_X0_worths_b36 Δ kb27 n) FUEL σ x1 x2 x3 x4 x5 0 1)
theorem w_C_X0_worths_b36 {Δ : DT} (X : FX p m c meth s args RX0 cX0_worths 9 none) (K : XK D d A s) {z : ST} {kb27 : ST → Int32 → Int32 → Int32 → Int32 → Option (ST)} (hkb27 : ∀ (σ : ST) (x1 : Int32) (x2 : Int32) (x3 : Int32) (x4 : Int32) (ls : Array Slot) (H : Heap) (locs : List Loc), XH D A s.heap (hC hs) (xct (LC Δ) (okC Δ) (hC hs) d σ) H locs → lv_has ls 9 [(0, .ref ((hC hs) 0 0 0)), (1, .int x1), (2, .int x2), (3, .int x3), (4, .int x4)] → kb27 σ x1 x2 x3 x4 = some z → W p l e (rmD 2 0 0) s m args below meth c H locs 0 0 (MQ below (Qv D (pu z) (cw (hC hs) (LC Δ) (okC Δ) d) A) args s 0 0 A) (F0 m 27 ls [])) : ∀ (n : Nat) (σ : ST) (x1 : Int32) (x2 : Int32) (x3 : Int32) (x4 : Int32) (x5 : Int32) (ls : Array Slot) (H : Heap) (locs : List Loc), XH D A s.heap (hC hs) (xct (LC Δ) (okC Δ) (hC hs) d σ) H locs → lv_has ls 9 [(0, .ref ((hC hs) 0 0 0)), (1, .int x1), (2, .int x2), (3, .int x3), (4, .int x4), (5, .int x5)] → C_X0_worths_b36 Δ kb27 n σ x1 x2 x3 x4 x5 = some z → W p l e (rmD 2 0 0) s m args below meth c H locs 0 0 (MQ below (Qv D (pu z) (cw (hC hs) (LC Δ) (okC Δ) d) A) args s 0 0 A) (F0 m 36 ls []) := by
  have hx := X.1.1; have hb := X.1.2.1
  intro n
  induction n with
  | zero =>
    intro σ x1 x2 x3 x4 x5 ls H locs O hl hf
    exact absurd hf (fun q => by cases q)
  | succ n ih =>
    intro σ x1 x2 x3 x4 x5 ls H locs O hl hf
    rw [C_X0_worths_b36] at hf
    refine lv_iload hx hb dX0_worths_36 (lv_at hl 5 rfl) ?_
    refine lv_bipush (v := 24) hx hb dX0_worths_38 (by decide) ?_
    refine lv_icmp_gt (tgt := 128) hx hb dX0_worths_40 (by decide) (fun c_1 => ?_) (fun c_1 => ?_)
    · replace hf := if_t c_1 hf
      refine lv_aload_n hx hb dX0_worths_128 rfl (lv_at hl 0 rfl) ?_
      obtain ⟨c_2, hf⟩ := ck_s hf
      refine x_gR X K O 9 rfl LC_0 rfl rfl in_X0 (by decide) q383 dX0_worths_129 ?_
      refine lv_astore (lv' := [(5, .ref ((hC hs) 12 (gR σ 0 0 0 9) 0)), (0, .ref ((hC hs) 0 0 0)), (1, .int x1), (2, .int x2), (3, .int x3), (4, .int x4)]) hx hb dX0_worths_132 hl (by decide) rfl (fun ls hl => ?_)
      refine lv_aload_n hx hb dX0_worths_134 rfl (lv_at hl 1 rfl) ?_
      refine lv_aload_n hx hb dX0_worths_135 rfl (lv_at hl 1 rfl) ?_
      obtain ⟨c_3, hf⟩ := ck_s hf
      refine x_gR X K O 10 rfl LC_0 rfl rfl in_X0 (by decide) q384 dX0_worths_136 ?_
      obtain ⟨σ_4, eσ_4, hf⟩ := lt1_s hf
      refine x_pR X K O 9 rfl LC_0 rfl rfl in_X0 tyX0_ok nmX0 (by decide) q383 rfl rfl rfl dX0_worths_139 (fun H locs O => ?_)
      rw [← eσ_4] at O
      refine lv_aload_n hx hb dX0_worths_142 rfl (lv_at hl 1 rfl) ?_
      refine lv_aload hx hb dX0_worths_143 (lv_at hl 0 rfl) ?_
      obtain ⟨σ_5, eσ_5, hf⟩ := lt1_s hf
      refine x_pR X K O 10 rfl LC_0 rfl rfl in_X0 tyX0_ok nmX0 (by decide) q384 rfl rfl rfl dX0_worths_145 (fun H locs O => ?_)
      rw [← eσ_5] at O
      obtain ⟨x4_6, ex4_6, hf⟩ := lt1_s hf
      refine lv_iinc (v := x4_6) (lv' := [(4, .int x4_6), (5, .ref ((hC hs) 12 (gR σ 0 0 0 9) 0)), (0, .ref ((hC hs) 0 0 0)), (1, .int x1), (2, .int x2), (3, .int x3)]) hx hb dX0_worths_148 hl (k := 5) rfl (by rw [ex4_6]; rfl) (by decide) rfl (fun ls hl => ?_)
      refine lv_goto (tgt := 27) hx hb dX0_worths_151 (by decide) ?_
      exact hkb27 _ _ _ _ _ ls _ _ O (lv_sub hl [2, 3, 4, 5, 0] rfl) hf
    · replace hf := if_f c_1 hf
      refine lv_lconst (v := 0) hx hb dX0_worths_43 (by decide) ?_
      refine lv_lstore (lv' := [(6, .long 0), (0, .ref ((hC hs) 0 0 0)), (1, .int x1), (2, .int x2), (3, .int x3), (4, .int x4), (5, .int x5)]) hx hb dX0_worths_44 hl (by decide) rfl (fun ls hl => ?_)
      refine lv_iconst (v := 1) hx hb dX0_worths_46 (by decide) ?_
      refine lv_istore (lv' := [(8, .int 1), (6, .long 0), (0, .ref ((hC hs) 0 0 0)), (1, .int x1), (2, .int x2), (3, .int x3), (4, .int x4), (5, .int x5)]) hx hb dX0_worths_47 hl (by decide) rfl (fun ls hl => ?_)
      exact w_C_X0_worths_b49 X K hkb27 ih _ _ _ _ _ _ _ _ _ ls _ _ O (lv_sub hl [2, 3, 4, 5, 6, 7, 1, 0] rfl) hf
def C_X0_worths_b27 (Δ : DT) : Nat → ST → Int32 → Int32 → Int32 → Int32 → Option (ST)
  | 0, _, _, _, _, _ => none
  | n + 1, σ, x1, x2, x3, x4 =>
    (if x1 ≤ x4 then some σ else C_X0_worths_b36 Δ (C_X0_worths_b27 Δ n) FUEL σ x1 x2 x3 x4 0)
theorem w_C_X0_worths_b27 {Δ : DT} (X : FX p m c meth s args RX0 cX0_worths 9 none) (K : XK D d A s) {z : ST} : ∀ (n : Nat) (σ : ST) (x1 : Int32) (x2 : Int32) (x3 : Int32) (x4 : Int32) (ls : Array Slot) (H : Heap) (locs : List Loc), XH D A s.heap (hC hs) (xct (LC Δ) (okC Δ) (hC hs) d σ) H locs → lv_has ls 9 [(0, .ref ((hC hs) 0 0 0)), (1, .int x1), (2, .int x2), (3, .int x3), (4, .int x4)] → C_X0_worths_b27 Δ n σ x1 x2 x3 x4 = some z → W p l e (rmD 2 0 0) s m args below meth c H locs 0 0 (MQ below (Qv D (pu z) (cw (hC hs) (LC Δ) (okC Δ) d) A) args s 0 0 A) (F0 m 27 ls []) := by
  have hx := X.1.1; have hb := X.1.2.1
  intro n
  induction n with
  | zero =>
    intro σ x1 x2 x3 x4 ls H locs O hl hf
    exact absurd hf (fun q => by cases q)
  | succ n ih =>
    intro σ x1 x2 x3 x4 ls H locs O hl hf
    rw [C_X0_worths_b27] at hf
    refine lv_iload hx hb dX0_worths_27 (lv_at hl 4 rfl) ?_
    refine lv_iload_n hx hb dX0_worths_29 rfl (lv_at hl 1 rfl) ?_
    refine lv_icmp_ge (tgt := 154) hx hb dX0_worths_30 (by decide) (fun c_1 => ?_) (fun c_1 => ?_)
    · replace hf := if_t c_1 hf
      exact x_vret X O rfl _ (Option.some.inj hf).symm rfl dX0_worths_154
    · replace hf := if_f c_1 hf
      refine lv_iconst (v := 0) hx hb dX0_worths_33 (by decide) ?_
      refine lv_istore (lv' := [(5, .int 0), (0, .ref ((hC hs) 0 0 0)), (1, .int x1), (2, .int x2), (3, .int x3), (4, .int x4)]) hx hb dX0_worths_34 hl (by decide) rfl (fun ls hl => ?_)
      exact w_C_X0_worths_b36 X K ih _ _ _ _ _ _ _ ls _ _ O (lv_sub hl [1, 2, 3, 4, 5, 0] rfl) hf
def C_X0_worths_b3 (Δ : DT) : Nat → ST → Int32 → Int32 → Int32 → Int32 → Option (ST)
  | 0, _, _, _, _, _ => none
  | n + 1, σ, x1, x2, x3, x4 =>
    (if 24 < x4 then C_X0_worths_b27 Δ FUEL σ x1 x2 x3 0 else ck ((okC Δ) 12 (gR σ 0 0 0 9) 0) (ck (okI x4 25) (lt1 (sL σ 12 (gR σ 0 0 0 9) 0 (Int32.toNatClampNeg x4) 0) (fun σ_4 => lt1 (x4 + 1) (fun x4_5 => (C_X0_worths_b3 Δ n) σ_4 x1 x2 x3 x4_5)))))
theorem w_C_X0_worths_b3 {Δ : DT} (X : FX p m c meth s args RX0 cX0_worths 9 none) (K : XK D d A s) {z : ST} : ∀ (n : Nat) (σ : ST) (x1 : Int32) (x2 : Int32) (x3 : Int32) (x4 : Int32) (ls : Array Slot) (H : Heap) (locs : List Loc), XH D A s.heap (hC hs) (xct (LC Δ) (okC Δ) (hC hs) d σ) H locs → lv_has ls 9 [(0, .ref ((hC hs) 0 0 0)), (1, .int x1), (2, .int x2), (3, .int x3), (4, .int x4)] → C_X0_worths_b3 Δ n σ x1 x2 x3 x4 = some z → W p l e (rmD 2 0 0) s m args below meth c H locs 0 0 (MQ below (Qv D (pu z) (cw (hC hs) (LC Δ) (okC Δ) d) A) args s 0 0 A) (F0 m 3 ls []) := by
  have hx := X.1.1; have hb := X.1.2.1
  intro n
  induction n with
  | zero =>
    intro σ x1 x2 x3 x4 ls H locs O hl hf
    exact absurd hf (fun q => by cases q)
  | succ n ih =>
    intro σ x1 x2 x3 x4 ls H locs O hl hf
    rw [C_X0_worths_b3] at hf
    refine lv_iload hx hb dX0_worths_3 (lv_at hl 4 rfl) ?_
    refine lv_bipush (v := 24) hx hb dX0_worths_5 (by decide) ?_
    refine lv_icmp_gt (tgt := 24) hx hb dX0_worths_7 (by decide) (fun c_1 => ?_) (fun c_1 => ?_)
    · replace hf := if_t c_1 hf
      refine lv_iconst (v := 0) hx hb dX0_worths_24 (by decide) ?_
      refine lv_istore (lv' := [(4, .int 0), (0, .ref ((hC hs) 0 0 0)), (1, .int x1), (2, .int x2), (3, .int x3)]) hx hb dX0_worths_25 hl (by decide) rfl (fun ls hl => ?_)
      exact w_C_X0_worths_b27 X K _ _ _ _ _ _ ls _ _ O (lv_sub hl [1, 2, 3, 4, 0] rfl) hf
    · replace hf := if_f c_1 hf
      refine lv_aload_n hx hb dX0_worths_10 rfl (lv_at hl 0 rfl) ?_
      obtain ⟨c_2, hf⟩ := ck_s hf
      refine x_gR X K O 9 rfl LC_0 rfl rfl in_X0 (by decide) q383 dX0_worths_11 ?_
      refine lv_iload hx hb dX0_worths_14 (lv_at hl 4 rfl) ?_
      refine lv_lconst (v := 0) hx hb dX0_worths_16 (by decide) ?_
      obtain ⟨c_3, hf⟩ := ck_s hf
      obtain ⟨σ_4, eσ_4, hf⟩ := lt1_s hf
      refine x_lst X K O c_2 LC_12 c_3 (j := (Int32.toNatClampNeg x4)) rfl dX0_worths_17 (fun H locs O => ?_)
      rw [← eσ_4] at O
      obtain ⟨x4_5, ex4_5, hf⟩ := lt1_s hf
      refine lv_iinc (v := x4_5) (lv' := [(4, .int x4_5), (0, .ref ((hC hs) 0 0 0)), (1, .int x1), (2, .int x2), (3, .int x3)]) hx hb dX0_worths_18 hl (k := 4) rfl (by rw [ex4_5]; rfl) (by decide) rfl (fun ls hl => ?_)
      refine lv_goto (tgt := 3) hx hb dX0_worths_21 (by decide) ?_
      exact ih _ _ _ _ _ ls _ _ O (lv_sub hl [1, 2, 3, 4, 0] rfl) hf
def C_X0_worths (Δ : DT) (σ : ST) (p1 : Int32) (p2 : Int32) (p3 : Int32) : Option (ST) :=
  C_X0_worths_b3 Δ FUEL σ p1 p2 p3 0
theorem m_C_X0_worths {l : Launch} {D : va_G} {d : Nat → ClassId} {hs : IX} {Δ : DT} {p1 : Int32} {p2 : Int32} {p3 : Int32} {σ : ST} {z : ST} (hf : C_X0_worths Δ σ p1 p2 p3 = some z) : XM l D d EN yX0_worths cX0_worths 9 none 2 0 0 [.ref ((hC hs) 0 0 0), .int p1, .int p2, .int p3] (hC hs) (xct (LC Δ) (okC Δ) (hC hs) d σ) (Qv D (pu z) (cw (hC hs) (LC Δ) (okC Δ) d)) := by
  refine XM.of (by decide +kernel) (Nat.le_of_ble_eq_true rfl) ?_
  intro p e s m below meth c A ls X _ K _ O hl
  have hl : lv_has ls 9 [(0, .ref ((hC hs) 0 0 0)), (1, .int p1), (2, .int p2), (3, .int p3)] := hl
  have hx := X.1.1; have hb := X.1.2.1
  rw [C_X0_worths] at hf
  refine lv_iconst (v := 0) hx hb dX0_worths_0 (by decide) ?_
  refine lv_istore (lv' := [(4, .int 0), (0, .ref ((hC hs) 0 0 0)), (1, .int p1), (2, .int p2), (3, .int p3)]) hx hb dX0_worths_1 hl (by decide) rfl (fun ls hl => ?_)
  exact w_C_X0_worths_b3 X K _ _ _ _ _ _ ls _ _ O (lv_sub hl [1, 2, 3, 4, 0] rfl) hf
theorem hdV_X0_worths : yX0_worths.cls = RX0 ∧ (yX0_worths.cls ≠ "java/lang/invoke/MethodHandle" ∧ yX0_worths.cls ≠ "java/lang/invoke/VarHandle" ∧ (parseMethodDescriptor yX0_worths.desc).map (fun d => d.parameters.length) = some 3) := by decide +kernel
def C_X0_plan_b144 (Δ : DT) : Nat → ST → Int32 → Int32 → Int32 → Int32 → Option (ST × Int64)
  | 0, _, _, _, _, _ => none
  | n + 1, σ, x2, x3, x4, x6 =>
    (if 12 < x6 then some (σ, (-1)) else bn2 (C_X0_breaking Δ σ x2 x6 x4 x3) (fun σ_2 r_3 => bn2 (C_X0_keeping Δ σ_2 x2 x6 x4) (fun σ_4 r_5 => (if (lg_cmp r_3 r_5) ≤ 0 then lt1 (x6 + 1) (fun x6_7 => (C_X0_plan_b144 Δ n) σ_4 x2 x3 x4 x6_7) else some (σ_4, (x6.toInt64))))))
theorem w_C_X0_plan_b144 {Δ : DT} (X : FX p m c meth s args RX0 cX0_plan 7 (some .long)) (K : XK D d A s) {z : ST × Int64} : ∀ (n : Nat) (σ : ST) (x2 : Int32) (x3 : Int32) (x4 : Int32) (x6 : Int32) (ls : Array Slot) (H : Heap) (locs : List Loc), XH D A s.heap (hC hs) (xct (LC Δ) (okC Δ) (hC hs) d σ) H locs → lv_has ls 7 [(0, .ref ((hC hs) 0 0 0)), (2, .int x2), (3, .int x3), (4, .int x4), (6, .int x6)] → C_X0_plan_b144 Δ n σ x2 x3 x4 x6 = some z → W p l e (rmD 3 0 0) s m args below meth c H locs 0 0 (MQ below (Ql D (pz z) (cw (hC hs) (LC Δ) (okC Δ) d) A) args s 0 0 A) (F0 m 144 ls []) := by
  have hx := X.1.1; have hb := X.1.2.1
  intro n
  induction n with
  | zero =>
    intro σ x2 x3 x4 x6 ls H locs O hl hf
    exact absurd hf (fun q => by cases q)
  | succ n ih =>
    intro σ x2 x3 x4 x6 ls H locs O hl hf
    rw [C_X0_plan_b144] at hf
    refine lv_iload hx hb dX0_plan_144 (lv_at hl 4 rfl) ?_
    refine lv_bipush (v := 12) hx hb dX0_plan_146 (by decide) ?_
    refine lv_icmp_gt (tgt := 184) hx hb dX0_plan_148 (by decide) (fun c_1 => ?_) (fun c_1 => ?_)
    · replace hf := if_t c_1 hf
      refine lv_ldc2 (v := (-1)) hx hb X.1.2.2.2.1 (X.1.2.2.2.2 _ q959) dX0_plan_184 ?_
      exact x_lret X O rfl _ (Option.some.inj hf).symm rfl dX0_plan_187
    · replace hf := if_f c_1 hf
      refine lv_aload_n hx hb dX0_plan_151 rfl (lv_at hl 0 rfl) ?_
      refine lv_iload_n hx hb dX0_plan_152 rfl (lv_at hl 1 rfl) ?_
      refine lv_iload hx hb dX0_plan_153 (lv_at hl 4 rfl) ?_
      refine lv_iload hx hb dX0_plan_155 (lv_at hl 3 rfl) ?_
      refine lv_iload_n hx hb dX0_plan_157 rfl (lv_at hl 2 rfl) ?_
      obtain ⟨σ_2, r_3, hg, hf⟩ := bn2_s hf
      refine x_calll (x_runV (As := [.int x2, .int x6, .int x4, .int x3]) (rest := []) X K O (xct_obj rfl LC_0) rfl (m_C_X0_breaking hg) EN_b EN_h (lw_V q955 q957 qs31 q111 q958) 4 rfl hl.1 (Nat.le_of_ble_eq_true rfl) hdV_X0_breaking ⟨by decide, by decide⟩ ⟨Nat.le_refl _, Nat.le_refl _⟩ dX0_plan_158) (fun r u H locs hp O _ => ?_)
      cases hp
      have O : XH D A s.heap (hC hs) (xct (LC Δ) (okC Δ) (hC hs) d σ_2) H locs := O
      refine lv_aload_n hx hb dX0_plan_161 rfl (lv_at hl 0 rfl) ?_
      refine lv_iload_n hx hb dX0_plan_162 rfl (lv_at hl 1 rfl) ?_
      refine lv_iload hx hb dX0_plan_163 (lv_at hl 4 rfl) ?_
      refine lv_iload hx hb dX0_plan_165 (lv_at hl 3 rfl) ?_
      obtain ⟨σ_4, r_5, hg, hf⟩ := bn2_s hf
      refine x_calll (x_runV (As := [.int x2, .int x6, .int x4]) (rest := [.long r_3]) X K O (xct_obj rfl LC_0) rfl (m_C_X0_keeping hg) EN_b EN_h (lw_V q949 q951 qs30 q111 q952) 3 rfl hl.1 (Nat.le_of_ble_eq_true rfl) hdV_X0_keeping ⟨by decide, by decide⟩ ⟨Nat.le_refl _, Nat.le_refl _⟩ dX0_plan_167) (fun r u H locs hp O _ => ?_)
      cases hp
      have O : XH D A s.heap (hC hs) (xct (LC Δ) (okC Δ) (hC hs) d σ_4) H locs := O
      refine W.lcmp hx hb dX0_plan_170 ?_
      refine lv_if_le (tgt := 178) hx hb dX0_plan_171 (by decide) (fun c_6 => ?_) (fun c_6 => ?_)
      · replace hf := if_t c_6 hf
        obtain ⟨x6_7, ex6_7, hf⟩ := lt1_s hf
        refine lv_iinc (v := x6_7) (lv' := [(6, .int x6_7), (0, .ref ((hC hs) 0 0 0)), (2, .int x2), (3, .int x3), (4, .int x4)]) hx hb dX0_plan_178 hl (k := 4) rfl (by rw [ex6_7]; rfl) (by decide) rfl (fun ls hl => ?_)
        refine lv_goto (tgt := 144) hx hb dX0_plan_181 (by decide) ?_
        exact ih _ _ _ _ _ ls _ _ O (lv_sub hl [1, 2, 3, 4, 0] rfl) hf
      · replace hf := if_f c_6 hf
        refine lv_iload hx hb dX0_plan_174 (lv_at hl 4 rfl) ?_
        refine lv_i2l (v := (x6.toInt64)) hx hb dX0_plan_176 rfl ?_
        exact x_lret X O rfl _ (Option.some.inj hf).symm rfl dX0_plan_177
def C_X0_plan_b101 (Δ : DT) (σ : ST) (x2 : Int32) (x3 : Int32) (x4 : Int32) (x5 : Int32) (s1 : Int32) : Option (ST × Int64) :=
  bn1 (C_X0_worths Δ σ s1 x4 x3) (fun σ_1 => (if x5 = 0 then ck ((okC Δ) 12 (gR σ_1 0 0 0 9) 0) (ck (okI x2 25) (some (σ_1, (gL σ_1 12 (gR σ_1 0 0 0 9) 0 (Int32.toNatClampNeg x2))))) else (if x5 = 2 then ck ((okC Δ) 12 (gR σ_1 0 0 0 9) 0) (ck (okI (x2 + 1) 25) (ck ((okC Δ) 12 (gR σ_1 0 0 0 9) 0) (ck (okI x2 25) (some (σ_1, ((gL σ_1 12 (gR σ_1 0 0 0 9) 0 (Int32.toNatClampNeg (x2 + 1))) - (gL σ_1 12 (gR σ_1 0 0 0 9) 0 (Int32.toNatClampNeg x2)))))))) else C_X0_plan_b144 Δ FUEL σ_1 x2 x3 x4 1)))
theorem w_C_X0_plan_b101 {Δ : DT} (X : FX p m c meth s args RX0 cX0_plan 7 (some .long)) (K : XK D d A s) {z : ST × Int64} (σ : ST) (x2 : Int32) (x3 : Int32) (x4 : Int32) (x5 : Int32) (s1 : Int32) (ls : Array Slot) (H : Heap) (locs : List Loc) (O : XH D A s.heap (hC hs) (xct (LC Δ) (okC Δ) (hC hs) d σ) H locs) (hl : lv_has ls 7 [(0, .ref ((hC hs) 0 0 0)), (2, .int x2), (3, .int x3), (4, .int x4), (5, .int x5)]) (hf : C_X0_plan_b101 Δ σ x2 x3 x4 x5 s1 = some z) : W p l e (rmD 3 0 0) s m args below meth c H locs 0 0 (MQ below (Ql D (pz z) (cw (hC hs) (LC Δ) (okC Δ) d) A) args s 0 0 A) (F0 m 101 ls [.int s1, .ref ((hC hs) 0 0 0)]) := by
  have hx := X.1.1; have hb := X.1.2.1
  rw [C_X0_plan_b101] at hf
  refine lv_iload hx hb dX0_plan_101 (lv_at hl 3 rfl) ?_
  refine lv_iload_n hx hb dX0_plan_103 rfl (lv_at hl 2 rfl) ?_
  obtain ⟨σ_1, hg, hf⟩ := bn1_s hf
  refine x_callv (x_runV (As := [.int s1, .int x4, .int x3]) (rest := []) X K O (xct_obj rfl LC_0) rfl (m_C_X0_worths hg) EN_b EN_h (lw_V q945 q947 qs29 q111 q948) 3 rfl hl.1 (Nat.le_of_ble_eq_true rfl) hdV_X0_worths ⟨by decide, by decide⟩ ⟨Nat.le_refl _, Nat.le_refl _⟩ dX0_plan_104) (fun u H locs hp O _ => ?_)
  cases hp
  have O : XH D A s.heap (hC hs) (xct (LC Δ) (okC Δ) (hC hs) d σ_1) H locs := O
  refine lv_iload hx hb dX0_plan_107 (lv_at hl 4 rfl) ?_
  refine lv_if_ne (tgt := 119) hx hb dX0_plan_109 (by decide) (fun c_2 => ?_) (fun c_2 => ?_)
  · replace hf := if_f c_2 hf
    refine lv_iload hx hb dX0_plan_119 (lv_at hl 4 rfl) ?_
    refine lv_iconst (v := 2) hx hb dX0_plan_121 (by decide) ?_
    refine lv_icmp_ne (tgt := 141) hx hb dX0_plan_122 (by decide) (fun c_3 => ?_) (fun c_3 => ?_)
    · replace hf := if_f c_3 hf
      refine lv_iconst (v := 1) hx hb dX0_plan_141 (by decide) ?_
      refine lv_istore (lv' := [(6, .int 1), (0, .ref ((hC hs) 0 0 0)), (2, .int x2), (3, .int x3), (4, .int x4), (5, .int x5)]) hx hb dX0_plan_142 hl (by decide) rfl (fun ls hl => ?_)
      exact w_C_X0_plan_b144 X K _ _ _ _ _ _ ls _ _ O (lv_sub hl [1, 2, 3, 4, 0] rfl) hf
    · replace hf := if_t c_3 hf
      refine lv_aload_n hx hb dX0_plan_125 rfl (lv_at hl 0 rfl) ?_
      obtain ⟨c_4, hf⟩ := ck_s hf
      refine x_gR X K O 9 rfl LC_0 rfl rfl in_X0 (by decide) q383 dX0_plan_126 ?_
      refine lv_iload_n hx hb dX0_plan_129 rfl (lv_at hl 1 rfl) ?_
      refine lv_iconst (v := 1) hx hb dX0_plan_130 (by decide) ?_
      refine lv_iadd hx hb dX0_plan_131 ?_
      obtain ⟨c_5, hf⟩ := ck_s hf
      refine x_lld X K O c_4 LC_12 c_5 (j := (Int32.toNatClampNeg (x2 + 1))) rfl dX0_plan_132 ?_
      refine lv_aload_n hx hb dX0_plan_133 rfl (lv_at hl 0 rfl) ?_
      obtain ⟨c_6, hf⟩ := ck_s hf
      refine x_gR X K O 9 rfl LC_0 rfl rfl in_X0 (by decide) q383 dX0_plan_134 ?_
      refine lv_iload_n hx hb dX0_plan_137 rfl (lv_at hl 1 rfl) ?_
      obtain ⟨c_7, hf⟩ := ck_s hf
      refine x_lld X K O c_6 LC_12 c_7 (j := (Int32.toNatClampNeg x2)) rfl dX0_plan_138 ?_
      refine lv_lsub hx hb dX0_plan_139 ?_
      exact x_lret X O rfl _ (Option.some.inj hf).symm rfl dX0_plan_140
  · replace hf := if_t c_2 hf
    refine lv_aload_n hx hb dX0_plan_112 rfl (lv_at hl 0 rfl) ?_
    obtain ⟨c_8, hf⟩ := ck_s hf
    refine x_gR X K O 9 rfl LC_0 rfl rfl in_X0 (by decide) q383 dX0_plan_113 ?_
    refine lv_iload_n hx hb dX0_plan_116 rfl (lv_at hl 1 rfl) ?_
    obtain ⟨c_9, hf⟩ := ck_s hf
    refine x_lld X K O c_8 LC_12 c_9 (j := (Int32.toNatClampNeg x2)) rfl dX0_plan_117 ?_
    exact x_lret X O rfl _ (Option.some.inj hf).symm rfl dX0_plan_118
def C_X0_plan_b35 (Δ : DT) (σ : ST) (x1 : Int32) (x2 : Int32) (x3 : Int32) (x4 : Int32) (x5 : Int32) (s0 : Int32) (s1 : Int32) (s2 : Int32) : Option (ST × Int64) :=
  bn2 (C_X0_isIn Δ σ s0 s1 s2) (fun σ_1 r_2 => (if r_2 = 0 then some (σ_1, (-1000000000)) else bn2 (C_X0_isIn Δ σ_1 x3 1 9) (fun σ_4 r_5 => (if r_5 = 0 then some (σ_4, (-1000000000)) else bn2 (C_X0_isIn Δ σ_4 x4 0 1000) (fun σ_7 r_8 => (if r_8 = 0 then some (σ_7, (-1000000000)) else bn2 (C_X0_isIn Δ σ_7 x5 0 2) (fun σ_10 r_11 => (if r_11 = 0 then some (σ_10, (-1000000000)) else bn2 (C_X1_weights Δ 0 σ_10) (fun σ_13 r_14 => (if r_14 = 0 then some (σ_13, (-1000000000)) else (if x5 = 1 then C_X0_plan_b101 Δ σ_13 x2 x3 x4 x5 (x1 - 1) else C_X0_plan_b101 Δ σ_13 x2 x3 x4 x5 x1)))))))))))
theorem w_C_X0_plan_b35 {Δ : DT} (X : FX p m c meth s args RX0 cX0_plan 7 (some .long)) (K : XK D d A s) {z : ST × Int64} (σ : ST) (x1 : Int32) (x2 : Int32) (x3 : Int32) (x4 : Int32) (x5 : Int32) (s0 : Int32) (s1 : Int32) (s2 : Int32) (ls : Array Slot) (H : Heap) (locs : List Loc) (O : XH D A s.heap (hC hs) (xct (LC Δ) (okC Δ) (hC hs) d σ) H locs) (hl : lv_has ls 7 [(0, .ref ((hC hs) 0 0 0)), (1, .int x1), (2, .int x2), (3, .int x3), (4, .int x4), (5, .int x5)]) (hf : C_X0_plan_b35 Δ σ x1 x2 x3 x4 x5 s0 s1 s2 = some z) : W p l e (rmD 3 0 0) s m args below meth c H locs 0 0 (MQ below (Ql D (pz z) (cw (hC hs) (LC Δ) (okC Δ) d) A) args s 0 0 A) (F0 m 35 ls [.int s2, .int s1, .int s0]) := by
  have hx := X.1.1; have hb := X.1.2.1
  rw [C_X0_plan_b35] at hf
  obtain ⟨σ_1, r_2, hg, hf⟩ := bn2_s hf
  refine x_calli (x_runS (As := [.int s0, .int s1, .int s2]) (rest := []) X K O (m_C_X0_isIn hg) EN_b EN_h (lw_S q444 q445 q111 q446) 3 rfl hl.1 (Nat.le_of_ble_eq_true rfl) hdS_X0_isIn ⟨by decide, by decide⟩ ⟨Nat.le_refl _, Nat.le_refl _⟩ dX0_plan_35) (fun r u H locs hp O _ => ?_)
  cases hp
  have O : XH D A s.heap (hC hs) (xct (LC Δ) (okC Δ) (hC hs) d σ_1) H locs := O
  refine lv_if_eq (tgt := 83) hx hb dX0_plan_38 (by decide) (fun c_3 => ?_) (fun c_3 => ?_)
  · replace hf := if_t c_3 hf
    refine lv_ldc2 (v := (-1000000000)) hx hb X.1.2.2.2.1 (X.1.2.2.2.2 _ q944) dX0_plan_83 ?_
    exact x_lret X O rfl _ (Option.some.inj hf).symm rfl dX0_plan_86
  · replace hf := if_f c_3 hf
    refine lv_iload_n hx hb dX0_plan_41 rfl (lv_at hl 3 rfl) ?_
    refine lv_iconst (v := 1) hx hb dX0_plan_42 (by decide) ?_
    refine lv_bipush (v := 9) hx hb dX0_plan_43 (by decide) ?_
    obtain ⟨σ_4, r_5, hg, hf⟩ := bn2_s hf
    refine x_calli (x_runS (As := [.int x3, .int 1, .int 9]) (rest := []) X K O (m_C_X0_isIn hg) EN_b EN_h (lw_S q444 q445 q111 q446) 3 rfl hl.1 (Nat.le_of_ble_eq_true rfl) hdS_X0_isIn ⟨by decide, by decide⟩ ⟨Nat.le_refl _, Nat.le_refl _⟩ dX0_plan_45) (fun r u H locs hp O _ => ?_)
    cases hp
    have O : XH D A s.heap (hC hs) (xct (LC Δ) (okC Δ) (hC hs) d σ_4) H locs := O
    refine lv_if_eq (tgt := 83) hx hb dX0_plan_48 (by decide) (fun c_6 => ?_) (fun c_6 => ?_)
    · replace hf := if_t c_6 hf
      refine lv_ldc2 (v := (-1000000000)) hx hb X.1.2.2.2.1 (X.1.2.2.2.2 _ q944) dX0_plan_83 ?_
      exact x_lret X O rfl _ (Option.some.inj hf).symm rfl dX0_plan_86
    · replace hf := if_f c_6 hf
      refine lv_iload hx hb dX0_plan_51 (lv_at hl 4 rfl) ?_
      refine lv_iconst (v := 0) hx hb dX0_plan_53 (by decide) ?_
      refine lv_sipush (v := 1000) hx hb dX0_plan_54 (by decide) ?_
      obtain ⟨σ_7, r_8, hg, hf⟩ := bn2_s hf
      refine x_calli (x_runS (As := [.int x4, .int 0, .int 1000]) (rest := []) X K O (m_C_X0_isIn hg) EN_b EN_h (lw_S q444 q445 q111 q446) 3 rfl hl.1 (Nat.le_of_ble_eq_true rfl) hdS_X0_isIn ⟨by decide, by decide⟩ ⟨Nat.le_refl _, Nat.le_refl _⟩ dX0_plan_57) (fun r u H locs hp O _ => ?_)
      cases hp
      have O : XH D A s.heap (hC hs) (xct (LC Δ) (okC Δ) (hC hs) d σ_7) H locs := O
      refine lv_if_eq (tgt := 83) hx hb dX0_plan_60 (by decide) (fun c_9 => ?_) (fun c_9 => ?_)
      · replace hf := if_t c_9 hf
        refine lv_ldc2 (v := (-1000000000)) hx hb X.1.2.2.2.1 (X.1.2.2.2.2 _ q944) dX0_plan_83 ?_
        exact x_lret X O rfl _ (Option.some.inj hf).symm rfl dX0_plan_86
      · replace hf := if_f c_9 hf
        refine lv_iload hx hb dX0_plan_63 (lv_at hl 5 rfl) ?_
        refine lv_iconst (v := 0) hx hb dX0_plan_65 (by decide) ?_
        refine lv_iconst (v := 2) hx hb dX0_plan_66 (by decide) ?_
        obtain ⟨σ_10, r_11, hg, hf⟩ := bn2_s hf
        refine x_calli (x_runS (As := [.int x5, .int 0, .int 2]) (rest := []) X K O (m_C_X0_isIn hg) EN_b EN_h (lw_S q444 q445 q111 q446) 3 rfl hl.1 (Nat.le_of_ble_eq_true rfl) hdS_X0_isIn ⟨by decide, by decide⟩ ⟨Nat.le_refl _, Nat.le_refl _⟩ dX0_plan_67) (fun r u H locs hp O _ => ?_)
        cases hp
        have O : XH D A s.heap (hC hs) (xct (LC Δ) (okC Δ) (hC hs) d σ_10) H locs := O
        refine lv_if_eq (tgt := 83) hx hb dX0_plan_70 (by decide) (fun c_12 => ?_) (fun c_12 => ?_)
        · replace hf := if_t c_12 hf
          refine lv_ldc2 (v := (-1000000000)) hx hb X.1.2.2.2.1 (X.1.2.2.2.2 _ q944) dX0_plan_83 ?_
          exact x_lret X O rfl _ (Option.some.inj hf).symm rfl dX0_plan_86
        · replace hf := if_f c_12 hf
          refine lv_aload_n hx hb dX0_plan_73 rfl (lv_at hl 0 rfl) ?_
          refine x_gF X K O 6 rfl LC_0 rfl rfl in_X0 (by decide) q379 dX0_plan_74 ?_
          obtain ⟨σ_13, r_14, hg, hf⟩ := bn2_s hf
          refine x_calli (x_runV (As := []) (rest := []) X K O (xct_obj rfl LC_1) rfl (m_C_X1_weights rfl hg) EN_b EN_h (lw_V q943 q925 q926 q119 q927) 0 rfl hl.1 (Nat.le_of_ble_eq_true rfl) hdV_X1_weights ⟨by decide, by decide⟩ ⟨Nat.le_refl _, Nat.le_refl _⟩ dX0_plan_77) (fun r u H locs hp O _ => ?_)
          cases hp
          have O : XH D A s.heap (hC hs) (xct (LC Δ) (okC Δ) (hC hs) d σ_13) H locs := O
          refine lv_if_ne (tgt := 87) hx hb dX0_plan_80 (by decide) (fun c_15 => ?_) (fun c_15 => ?_)
          · replace hf := if_f c_15 hf
            refine lv_aload_n hx hb dX0_plan_87 rfl (lv_at hl 0 rfl) ?_
            refine lv_iload hx hb dX0_plan_88 (lv_at hl 5 rfl) ?_
            refine lv_iconst (v := 1) hx hb dX0_plan_90 (by decide) ?_
            refine lv_icmp_ne (tgt := 100) hx hb dX0_plan_91 (by decide) (fun c_16 => ?_) (fun c_16 => ?_)
            · replace hf := if_f c_16 hf
              refine lv_iload_n hx hb dX0_plan_100 rfl (lv_at hl 1 rfl) ?_
              exact w_C_X0_plan_b101 X K _ _ _ _ _ _ ls _ _ O (lv_sub hl [0, 2, 3, 4, 5] rfl) hf
            · replace hf := if_t c_16 hf
              refine lv_iload_n hx hb dX0_plan_94 rfl (lv_at hl 1 rfl) ?_
              refine lv_iconst (v := 1) hx hb dX0_plan_95 (by decide) ?_
              refine lv_isub hx hb dX0_plan_96 ?_
              refine lv_goto (tgt := 101) hx hb dX0_plan_97 (by decide) ?_
              exact w_C_X0_plan_b101 X K _ _ _ _ _ _ ls _ _ O (lv_sub hl [0, 2, 3, 4, 5] rfl) hf
          · replace hf := if_t c_15 hf
            refine lv_ldc2 (v := (-1000000000)) hx hb X.1.2.2.2.1 (X.1.2.2.2.2 _ q944) dX0_plan_83 ?_
            exact x_lret X O rfl _ (Option.some.inj hf).symm rfl dX0_plan_86
def C_X0_plan_b12 (Δ : DT) (σ : ST) (x1 : Int32) (x2 : Int32) (x3 : Int32) (x4 : Int32) (x5 : Int32) (s0 : Int32) (s1 : Int32) : Option (ST × Int64) :=
  bn2 (C_X0_isIn Δ σ s0 s1 60) (fun σ_1 r_2 => (if r_2 = 0 then some (σ_1, (-1000000000)) else (if x5 = 2 then C_X0_plan_b35 Δ σ_1 x1 x2 x3 x4 x5 x2 0 23 else C_X0_plan_b35 Δ σ_1 x1 x2 x3 x4 x5 x2 0 24)))
theorem w_C_X0_plan_b12 {Δ : DT} (X : FX p m c meth s args RX0 cX0_plan 7 (some .long)) (K : XK D d A s) {z : ST × Int64} (σ : ST) (x1 : Int32) (x2 : Int32) (x3 : Int32) (x4 : Int32) (x5 : Int32) (s0 : Int32) (s1 : Int32) (ls : Array Slot) (H : Heap) (locs : List Loc) (O : XH D A s.heap (hC hs) (xct (LC Δ) (okC Δ) (hC hs) d σ) H locs) (hl : lv_has ls 7 [(0, .ref ((hC hs) 0 0 0)), (1, .int x1), (2, .int x2), (3, .int x3), (4, .int x4), (5, .int x5)]) (hf : C_X0_plan_b12 Δ σ x1 x2 x3 x4 x5 s0 s1 = some z) : W p l e (rmD 3 0 0) s m args below meth c H locs 0 0 (MQ below (Ql D (pz z) (cw (hC hs) (LC Δ) (okC Δ) d) A) args s 0 0 A) (F0 m 12 ls [.int s1, .int s0]) := by
  have hx := X.1.1; have hb := X.1.2.1
  rw [C_X0_plan_b12] at hf
  refine lv_bipush (v := 60) hx hb dX0_plan_12 (by decide) ?_
  obtain ⟨σ_1, r_2, hg, hf⟩ := bn2_s hf
  refine x_calli (x_runS (As := [.int s0, .int s1, .int 60]) (rest := []) X K O (m_C_X0_isIn hg) EN_b EN_h (lw_S q444 q445 q111 q446) 3 rfl hl.1 (Nat.le_of_ble_eq_true rfl) hdS_X0_isIn ⟨by decide, by decide⟩ ⟨Nat.le_refl _, Nat.le_refl _⟩ dX0_plan_14) (fun r u H locs hp O _ => ?_)
  cases hp
  have O : XH D A s.heap (hC hs) (xct (LC Δ) (okC Δ) (hC hs) d σ_1) H locs := O
  refine lv_if_eq (tgt := 83) hx hb dX0_plan_17 (by decide) (fun c_3 => ?_) (fun c_3 => ?_)
  · replace hf := if_t c_3 hf
    refine lv_ldc2 (v := (-1000000000)) hx hb X.1.2.2.2.1 (X.1.2.2.2.2 _ q944) dX0_plan_83 ?_
    exact x_lret X O rfl _ (Option.some.inj hf).symm rfl dX0_plan_86
  · replace hf := if_f c_3 hf
    refine lv_iload_n hx hb dX0_plan_20 rfl (lv_at hl 2 rfl) ?_
    refine lv_iconst (v := 0) hx hb dX0_plan_21 (by decide) ?_
    refine lv_iload hx hb dX0_plan_22 (lv_at hl 5 rfl) ?_
    refine lv_iconst (v := 2) hx hb dX0_plan_24 (by decide) ?_
    refine lv_icmp_ne (tgt := 33) hx hb dX0_plan_25 (by decide) (fun c_4 => ?_) (fun c_4 => ?_)
    · replace hf := if_f c_4 hf
      refine lv_bipush (v := 24) hx hb dX0_plan_33 (by decide) ?_
      exact w_C_X0_plan_b35 X K _ _ _ _ _ _ _ _ _ ls _ _ O (lv_sub hl [0, 1, 2, 3, 4, 5] rfl) hf
    · replace hf := if_t c_4 hf
      refine lv_bipush (v := 23) hx hb dX0_plan_28 (by decide) ?_
      refine lv_goto (tgt := 35) hx hb dX0_plan_30 (by decide) ?_
      exact w_C_X0_plan_b35 X K _ _ _ _ _ _ _ _ _ ls _ _ O (lv_sub hl [0, 1, 2, 3, 4, 5] rfl) hf
def C_X0_plan (Δ : DT) (σ : ST) (p1 : Int32) (p2 : Int32) (p3 : Int32) (p4 : Int32) (p5 : Int32) : Option (ST × Int64) :=
  (if p5 = 1 then C_X0_plan_b12 Δ σ p1 p2 p3 p4 p5 p1 1 else C_X0_plan_b12 Δ σ p1 p2 p3 p4 p5 p1 0)
theorem m_C_X0_plan {l : Launch} {D : va_G} {d : Nat → ClassId} {hs : IX} {Δ : DT} {p1 : Int32} {p2 : Int32} {p3 : Int32} {p4 : Int32} {p5 : Int32} {σ : ST} {z : ST × Int64} (hf : C_X0_plan Δ σ p1 p2 p3 p4 p5 = some z) : XM l D d EN yX0_plan cX0_plan 7 (some .long) 3 0 0 [.ref ((hC hs) 0 0 0), .int p1, .int p2, .int p3, .int p4, .int p5] (hC hs) (xct (LC Δ) (okC Δ) (hC hs) d σ) (Ql D (pz z) (cw (hC hs) (LC Δ) (okC Δ) d)) := by
  refine XM.of (by decide +kernel) (Nat.le_of_ble_eq_true rfl) ?_
  intro p e s m below meth c A ls X _ K _ O hl
  have hl : lv_has ls 7 [(0, .ref ((hC hs) 0 0 0)), (1, .int p1), (2, .int p2), (3, .int p3), (4, .int p4), (5, .int p5)] := hl
  have hx := X.1.1; have hb := X.1.2.1
  rw [C_X0_plan] at hf
  refine lv_iload_n hx hb dX0_plan_0 rfl (lv_at hl 1 rfl) ?_
  refine lv_iload hx hb dX0_plan_1 (lv_at hl 5 rfl) ?_
  refine lv_iconst (v := 1) hx hb dX0_plan_3 (by decide) ?_
  refine lv_icmp_ne (tgt := 11) hx hb dX0_plan_4 (by decide) (fun c_1 => ?_) (fun c_1 => ?_)
  · replace hf := if_f c_1 hf
    refine lv_iconst (v := 0) hx hb dX0_plan_11 (by decide) ?_
    exact w_C_X0_plan_b12 X K _ _ _ _ _ _ _ _ ls _ _ O (lv_sub hl [0, 1, 2, 3, 4, 5] rfl) hf
  · replace hf := if_t c_1 hf
    refine lv_iconst (v := 1) hx hb dX0_plan_7 (by decide) ?_
    refine lv_goto (tgt := 12) hx hb dX0_plan_8 (by decide) ?_
    exact w_C_X0_plan_b12 X K _ _ _ _ _ _ _ _ ls _ _ O (lv_sub hl [0, 1, 2, 3, 4, 5] rfl) hf
def C_X0_greatestSize_b30 (Δ : DT) (kb4 : ST → Int32 → Int32 → Option (ST × Int32)) (σ : ST) (x2 : Int32) (s0 : Int32) : Option (ST × Int32) :=
  lt1 (x2 + 1) (fun x2_1 => kb4 σ s0 x2_1)
theorem w_C_X0_greatestSize_b30 {Δ : DT} (X : FX p m c meth s args RX0 cX0_greatestSize 3 (some .int)) (K : XK D d A s) {z : ST × Int32} {kb4 : ST → Int32 → Int32 → Option (ST × Int32)} (hkb4 : ∀ (σ : ST) (x1 : Int32) (x2 : Int32) (ls : Array Slot) (H : Heap) (locs : List Loc), XH D A s.heap (hC hs) (xct (LC Δ) (okC Δ) (hC hs) d σ) H locs → lv_has ls 3 [(0, .ref ((hC hs) 0 0 0)), (1, .int x1), (2, .int x2)] → kb4 σ x1 x2 = some z → W p l e (rmD 0 0 0) s m args below meth c H locs 0 0 (MQ below (Qi D (pz z) (cw (hC hs) (LC Δ) (okC Δ) d) A) args s 0 0 A) (F0 m 4 ls [])) (σ : ST) (x2 : Int32) (s0 : Int32) (ls : Array Slot) (H : Heap) (locs : List Loc) (O : XH D A s.heap (hC hs) (xct (LC Δ) (okC Δ) (hC hs) d σ) H locs) (hl : lv_has ls 3 [(0, .ref ((hC hs) 0 0 0)), (2, .int x2)]) (hf : C_X0_greatestSize_b30 Δ kb4 σ x2 s0 = some z) : W p l e (rmD 0 0 0) s m args below meth c H locs 0 0 (MQ below (Qi D (pz z) (cw (hC hs) (LC Δ) (okC Δ) d) A) args s 0 0 A) (F0 m 30 ls [.int s0]) := by
  have hx := X.1.1; have hb := X.1.2.1
  rw [C_X0_greatestSize_b30] at hf
  refine lv_istore_n (lv' := [(1, .int s0), (0, .ref ((hC hs) 0 0 0)), (2, .int x2)]) hx hb dX0_greatestSize_30 rfl hl (by decide) rfl (fun ls hl => ?_)
  obtain ⟨x2_1, ex2_1, hf⟩ := lt1_s hf
  refine lv_iinc (v := x2_1) (lv' := [(2, .int x2_1), (1, .int s0), (0, .ref ((hC hs) 0 0 0))]) hx hb dX0_greatestSize_31 hl (k := 2) rfl (by rw [ex2_1]; rfl) (by decide) rfl (fun ls hl => ?_)
  refine lv_goto (tgt := 4) hx hb dX0_greatestSize_34 (by decide) ?_
  exact hkb4 _ _ _ ls _ _ O (lv_sub hl [2, 1, 0] rfl) hf
def C_X0_greatestSize_b4 (Δ : DT) : Nat → ST → Int32 → Int32 → Option (ST × Int32)
  | 0, _, _, _ => none
  | n + 1, σ, x1, x2 =>
    (if 12 < x2 then some (σ, x1) else ck (okI (10 + x2) 23) ((if (gI σ 4 0 0 (Int32.toNatClampNeg (10 + x2))) ≤ 0 then C_X0_greatestSize_b30 Δ (C_X0_greatestSize_b4 Δ n) σ x2 x1 else C_X0_greatestSize_b30 Δ (C_X0_greatestSize_b4 Δ n) σ x2 x2)))
theorem w_C_X0_greatestSize_b4 {Δ : DT} (X : FX p m c meth s args RX0 cX0_greatestSize 3 (some .int)) (K : XK D d A s) {z : ST × Int32} : ∀ (n : Nat) (σ : ST) (x1 : Int32) (x2 : Int32) (ls : Array Slot) (H : Heap) (locs : List Loc), XH D A s.heap (hC hs) (xct (LC Δ) (okC Δ) (hC hs) d σ) H locs → lv_has ls 3 [(0, .ref ((hC hs) 0 0 0)), (1, .int x1), (2, .int x2)] → C_X0_greatestSize_b4 Δ n σ x1 x2 = some z → W p l e (rmD 0 0 0) s m args below meth c H locs 0 0 (MQ below (Qi D (pz z) (cw (hC hs) (LC Δ) (okC Δ) d) A) args s 0 0 A) (F0 m 4 ls []) := by
  have hx := X.1.1; have hb := X.1.2.1
  intro n
  induction n with
  | zero =>
    intro σ x1 x2 ls H locs O hl hf
    exact absurd hf (fun q => by cases q)
  | succ n ih =>
    intro σ x1 x2 ls H locs O hl hf
    rw [C_X0_greatestSize_b4] at hf
    refine lv_iload_n hx hb dX0_greatestSize_4 rfl (lv_at hl 2 rfl) ?_
    refine lv_bipush (v := 12) hx hb dX0_greatestSize_5 (by decide) ?_
    refine lv_icmp_gt (tgt := 37) hx hb dX0_greatestSize_7 (by decide) (fun c_1 => ?_) (fun c_1 => ?_)
    · replace hf := if_t c_1 hf
      refine lv_iload_n hx hb dX0_greatestSize_37 rfl (lv_at hl 1 rfl) ?_
      exact x_iret X O rfl _ (Option.some.inj hf).symm rfl dX0_greatestSize_38
    · replace hf := if_f c_1 hf
      refine lv_aload_n hx hb dX0_greatestSize_10 rfl (lv_at hl 0 rfl) ?_
      refine x_gF X K O 6 rfl LC_0 rfl rfl in_X0 (by decide) q379 dX0_greatestSize_11 ?_
      refine x_gFN X K O 2 rfl LC_1 rfl rfl in_X1 (by decide) q300 dX0_greatestSize_14 ?_
      refine lv_bipush (v := 10) hx hb dX0_greatestSize_17 (by decide) ?_
      refine lv_iload_n hx hb dX0_greatestSize_19 rfl (lv_at hl 2 rfl) ?_
      refine lv_iadd hx hb dX0_greatestSize_20 ?_
      obtain ⟨c_2, hf⟩ := ck_s hf
      refine x_ild X K O rfl LC_4 c_2 (j := (Int32.toNatClampNeg (10 + x2))) rfl dX0_greatestSize_21 ?_
      refine lv_if_le (tgt := 29) hx hb dX0_greatestSize_22 (by decide) (fun c_3 => ?_) (fun c_3 => ?_)
      · replace hf := if_t c_3 hf
        refine lv_iload_n hx hb dX0_greatestSize_29 rfl (lv_at hl 1 rfl) ?_
        exact w_C_X0_greatestSize_b30 X K ih _ _ _ ls _ _ O (lv_sub hl [0, 2] rfl) hf
      · replace hf := if_f c_3 hf
        refine lv_iload_n hx hb dX0_greatestSize_25 rfl (lv_at hl 2 rfl) ?_
        refine lv_goto (tgt := 30) hx hb dX0_greatestSize_26 (by decide) ?_
        exact w_C_X0_greatestSize_b30 X K ih _ _ _ ls _ _ O (lv_sub hl [0, 2] rfl) hf
def C_X0_greatestSize (Δ : DT) (σ : ST) : Option (ST × Int32) :=
  C_X0_greatestSize_b4 Δ FUEL σ 0 1
theorem m_C_X0_greatestSize {l : Launch} {D : va_G} {d : Nat → ClassId} {hs : IX} {Δ : DT} {σ : ST} {z : ST × Int32} (hf : C_X0_greatestSize Δ σ = some z) : XM l D d EN yX0_greatestSize cX0_greatestSize 3 (some .int) 0 0 0 [.ref ((hC hs) 0 0 0)] (hC hs) (xct (LC Δ) (okC Δ) (hC hs) d σ) (Qi D (pz z) (cw (hC hs) (LC Δ) (okC Δ) d)) := by
  refine XM.of (by decide +kernel) (Nat.le_of_ble_eq_true rfl) ?_
  intro p e s m below meth c A ls X _ K _ O hl
  have hl : lv_has ls 3 [(0, .ref ((hC hs) 0 0 0))] := hl
  have hx := X.1.1; have hb := X.1.2.1
  rw [C_X0_greatestSize] at hf
  refine lv_iconst (v := 0) hx hb dX0_greatestSize_0 (by decide) ?_
  refine lv_istore_n (lv' := [(1, .int 0), (0, .ref ((hC hs) 0 0 0))]) hx hb dX0_greatestSize_1 rfl hl (by decide) rfl (fun ls hl => ?_)
  refine lv_iconst (v := 1) hx hb dX0_greatestSize_2 (by decide) ?_
  refine lv_istore_n (lv' := [(2, .int 1), (1, .int 0), (0, .ref ((hC hs) 0 0 0))]) hx hb dX0_greatestSize_3 rfl hl (by decide) rfl (fun ls hl => ?_)
  exact w_C_X0_greatestSize_b4 X K _ _ _ _ ls _ _ O (lv_sub hl [2, 1, 0] rfl) hf
def C_X0_flowsOn_b216 (Δ : DT) (kb11 : ST → Int32 → Int32 → Int32 → Int32 → Int64 → Int32 → Option (ST)) (σ : ST) (x1 : Int32) (x2 : Int32) (x3 : Int32) (x4 : Int32) (x5 : Int64) (x7 : Int32) (s1 : Int64) (s2 : Int64) (s3 : Int32) : Option (ST) :=
  lt1 (sL σ 0 0 0 15 (s1 + ((s2 * (s3.toInt64)) * (x7.toInt64)))) (fun σ_1 => lt1 (x7 + 1) (fun x7_2 => kb11 σ_1 x1 x2 x3 x4 x5 x7_2))
theorem w_C_X0_flowsOn_b216 {Δ : DT} (X : FX p m c meth s args RX0 cX0_flowsOn 11 none) (K : XK D d A s) {z : ST} {kb11 : ST → Int32 → Int32 → Int32 → Int32 → Int64 → Int32 → Option (ST)} (hkb11 : ∀ (σ : ST) (x1 : Int32) (x2 : Int32) (x3 : Int32) (x4 : Int32) (x5 : Int64) (x7 : Int32) (ls : Array Slot) (H : Heap) (locs : List Loc), XH D A s.heap (hC hs) (xct (LC Δ) (okC Δ) (hC hs) d σ) H locs → lv_has ls 11 [(0, .ref ((hC hs) 0 0 0)), (1, .int x1), (2, .int x2), (3, .int x3), (4, .int x4), (5, .long x5), (7, .int x7)] → kb11 σ x1 x2 x3 x4 x5 x7 = some z → W p l e (rmD 1 0 0) s m args below meth c H locs 0 0 (MQ below (Qv D (pu z) (cw (hC hs) (LC Δ) (okC Δ) d) A) args s 0 0 A) (F0 m 11 ls [])) (σ : ST) (x1 : Int32) (x2 : Int32) (x3 : Int32) (x4 : Int32) (x5 : Int64) (x7 : Int32) (s1 : Int64) (s2 : Int64) (s3 : Int32) (ls : Array Slot) (H : Heap) (locs : List Loc) (O : XH D A s.heap (hC hs) (xct (LC Δ) (okC Δ) (hC hs) d σ) H locs) (hl : lv_has ls 11 [(0, .ref ((hC hs) 0 0 0)), (1, .int x1), (2, .int x2), (3, .int x3), (4, .int x4), (5, .long x5), (7, .int x7)]) (hf : C_X0_flowsOn_b216 Δ kb11 σ x1 x2 x3 x4 x5 x7 s1 s2 s3 = some z) : W p l e (rmD 1 0 0) s m args below meth c H locs 0 0 (MQ below (Qv D (pu z) (cw (hC hs) (LC Δ) (okC Δ) d) A) args s 0 0 A) (F0 m 216 ls [.int s3, .long s2, .long s1, .ref ((hC hs) 0 0 0)]) := by
  have hx := X.1.1; have hb := X.1.2.1
  rw [C_X0_flowsOn_b216] at hf
  refine lv_i2l (v := (s3.toInt64)) hx hb dX0_flowsOn_216 rfl ?_
  refine lv_lmul hx hb dX0_flowsOn_217 ?_
  refine lv_iload hx hb dX0_flowsOn_218 (lv_at hl 6 rfl) ?_
  refine lv_i2l (v := (x7.toInt64)) hx hb dX0_flowsOn_220 rfl ?_
  refine lv_lmul hx hb dX0_flowsOn_221 ?_
  refine lv_ladd hx hb dX0_flowsOn_222 ?_
  obtain ⟨σ_1, eσ_1, hf⟩ := lt1_s hf
  refine x_pL X K O 15 rfl LC_0 rfl rfl in_X0 tyX0_ok nmX0 (by decide) q389 rfl rfl rfl dX0_flowsOn_223 (fun H locs O => ?_)
  rw [← eσ_1] at O
  obtain ⟨x7_2, ex7_2, hf⟩ := lt1_s hf
  refine lv_iinc (v := x7_2) (lv' := [(7, .int x7_2), (0, .ref ((hC hs) 0 0 0)), (1, .int x1), (2, .int x2), (3, .int x3), (4, .int x4), (5, .long x5)]) hx hb dX0_flowsOn_226 hl (k := 6) rfl (by rw [ex7_2]; rfl) (by decide) rfl (fun ls hl => ?_)
  refine lv_goto (tgt := 11) hx hb dX0_flowsOn_229 (by decide) ?_
  exact hkb11 _ _ _ _ _ _ _ ls _ _ O (lv_sub hl [1, 2, 3, 4, 5, 6, 0] rfl) hf
def C_X0_flowsOn_b160 (Δ : DT) (kb11 : ST → Int32 → Int32 → Int32 → Int32 → Int64 → Int32 → Option (ST)) (σ : ST) (x1 : Int32) (x2 : Int32) (x3 : Int32) (x4 : Int32) (x5 : Int64) (x7 : Int32) (x8 : Int64) (x10 : Int32) (s1 : Int64) (s2 : Int64) (s4 : Int32) : Option (ST) :=
  ck (okI s4 23) (lt1 (sL σ 0 0 0 14 (s1 + ((s2 * (Int32.toInt64 (gI σ 4 0 0 (Int32.toNatClampNeg s4)))) * (x7.toInt64)))) (fun σ_2 => (if x10 = 0 then C_X0_flowsOn_b216 Δ kb11 σ_2 x1 x2 x3 x4 x5 x7 (gL σ_2 0 0 0 15) x8 (2 * (gI σ_2 4 0 0 0)) else C_X0_flowsOn_b216 Δ kb11 σ_2 x1 x2 x3 x4 x5 x7 (gL σ_2 0 0 0 15) x8 ((gI σ_2 4 0 0 1) - (gI σ_2 4 0 0 2)))))
theorem w_C_X0_flowsOn_b160 {Δ : DT} (X : FX p m c meth s args RX0 cX0_flowsOn 11 none) (K : XK D d A s) {z : ST} {kb11 : ST → Int32 → Int32 → Int32 → Int32 → Int64 → Int32 → Option (ST)} (hkb11 : ∀ (σ : ST) (x1 : Int32) (x2 : Int32) (x3 : Int32) (x4 : Int32) (x5 : Int64) (x7 : Int32) (ls : Array Slot) (H : Heap) (locs : List Loc), XH D A s.heap (hC hs) (xct (LC Δ) (okC Δ) (hC hs) d σ) H locs → lv_has ls 11 [(0, .ref ((hC hs) 0 0 0)), (1, .int x1), (2, .int x2), (3, .int x3), (4, .int x4), (5, .long x5), (7, .int x7)] → kb11 σ x1 x2 x3 x4 x5 x7 = some z → W p l e (rmD 1 0 0) s m args below meth c H locs 0 0 (MQ below (Qv D (pu z) (cw (hC hs) (LC Δ) (okC Δ) d) A) args s 0 0 A) (F0 m 11 ls [])) (σ : ST) (x1 : Int32) (x2 : Int32) (x3 : Int32) (x4 : Int32) (x5 : Int64) (x7 : Int32) (x8 : Int64) (x10 : Int32) (s1 : Int64) (s2 : Int64) (s4 : Int32) (ls : Array Slot) (H : Heap) (locs : List Loc) (O : XH D A s.heap (hC hs) (xct (LC Δ) (okC Δ) (hC hs) d σ) H locs) (hl : lv_has ls 11 [(0, .ref ((hC hs) 0 0 0)), (1, .int x1), (2, .int x2), (3, .int x3), (4, .int x4), (5, .long x5), (7, .int x7), (8, .long x8), (10, .int x10)]) (hf : C_X0_flowsOn_b160 Δ kb11 σ x1 x2 x3 x4 x5 x7 x8 x10 s1 s2 s4 = some z) : W p l e (rmD 1 0 0) s m args below meth c H locs 0 0 (MQ below (Qv D (pu z) (cw (hC hs) (LC Δ) (okC Δ) d) A) args s 0 0 A) (F0 m 160 ls [.int s4, .ref ((hC hs) 4 0 0), .long s2, .long s1, .ref ((hC hs) 0 0 0)]) := by
  have hx := X.1.1; have hb := X.1.2.1
  rw [C_X0_flowsOn_b160] at hf
  obtain ⟨c_1, hf⟩ := ck_s hf
  refine x_ild X K O rfl LC_4 c_1 (j := (Int32.toNatClampNeg s4)) rfl dX0_flowsOn_160 ?_
  refine lv_i2l (v := (Int32.toInt64 (gI σ 4 0 0 (Int32.toNatClampNeg s4)))) hx hb dX0_flowsOn_161 rfl ?_
  refine lv_lmul hx hb dX0_flowsOn_162 ?_
  refine lv_iload hx hb dX0_flowsOn_163 (lv_at hl 6 rfl) ?_
  refine lv_i2l (v := (x7.toInt64)) hx hb dX0_flowsOn_165 rfl ?_
  refine lv_lmul hx hb dX0_flowsOn_166 ?_
  refine lv_ladd hx hb dX0_flowsOn_167 ?_
  obtain ⟨σ_2, eσ_2, hf⟩ := lt1_s hf
  refine x_pL X K O 14 rfl LC_0 rfl rfl in_X0 tyX0_ok nmX0 (by decide) q388 rfl rfl rfl dX0_flowsOn_168 (fun H locs O => ?_)
  rw [← eσ_2] at O
  refine lv_aload_n hx hb dX0_flowsOn_171 rfl (lv_at hl 0 rfl) ?_
  refine lv_dup hx hb dX0_flowsOn_172 rfl ?_
  refine x_gL X K O 15 rfl LC_0 rfl rfl in_X0 (by decide) q389 dX0_flowsOn_173 ?_
  refine lv_lload hx hb dX0_flowsOn_176 (lv_at hl 7 rfl) ?_
  refine lv_iload hx hb dX0_flowsOn_178 (lv_at hl 8 rfl) ?_
  refine lv_if_eq (tgt := 205) hx hb dX0_flowsOn_180 (by decide) (fun c_3 => ?_) (fun c_3 => ?_)
  · replace hf := if_t c_3 hf
    refine lv_iconst (v := 2) hx hb dX0_flowsOn_205 (by decide) ?_
    refine lv_aload_n hx hb dX0_flowsOn_206 rfl (lv_at hl 0 rfl) ?_
    refine x_gF X K O 6 rfl LC_0 rfl rfl in_X0 (by decide) q379 dX0_flowsOn_207 ?_
    refine x_gFN X K O 2 rfl LC_1 rfl rfl in_X1 (by decide) q300 dX0_flowsOn_210 ?_
    refine lv_iconst (v := 0) hx hb dX0_flowsOn_213 (by decide) ?_
    refine x_ild X K O rfl LC_4 (by decide) (j := 0) rfl dX0_flowsOn_214 ?_
    refine lv_imul hx hb dX0_flowsOn_215 ?_
    exact w_C_X0_flowsOn_b216 X K hkb11 _ _ _ _ _ _ _ _ _ _ ls _ _ O (lv_sub hl [0, 1, 2, 3, 4, 5, 6] rfl) hf
  · replace hf := if_f c_3 hf
    refine lv_aload_n hx hb dX0_flowsOn_183 rfl (lv_at hl 0 rfl) ?_
    refine x_gF X K O 6 rfl LC_0 rfl rfl in_X0 (by decide) q379 dX0_flowsOn_184 ?_
    refine x_gFN X K O 2 rfl LC_1 rfl rfl in_X1 (by decide) q300 dX0_flowsOn_187 ?_
    refine lv_iconst (v := 1) hx hb dX0_flowsOn_190 (by decide) ?_
    refine x_ild X K O rfl LC_4 (by decide) (j := 1) rfl dX0_flowsOn_191 ?_
    refine lv_aload_n hx hb dX0_flowsOn_192 rfl (lv_at hl 0 rfl) ?_
    refine x_gF X K O 6 rfl LC_0 rfl rfl in_X0 (by decide) q379 dX0_flowsOn_193 ?_
    refine x_gFN X K O 2 rfl LC_1 rfl rfl in_X1 (by decide) q300 dX0_flowsOn_196 ?_
    refine lv_iconst (v := 2) hx hb dX0_flowsOn_199 (by decide) ?_
    refine x_ild X K O rfl LC_4 (by decide) (j := 2) rfl dX0_flowsOn_200 ?_
    refine lv_isub hx hb dX0_flowsOn_201 ?_
    refine lv_goto (tgt := 216) hx hb dX0_flowsOn_202 (by decide) ?_
    exact w_C_X0_flowsOn_b216 X K hkb11 _ _ _ _ _ _ _ _ _ _ ls _ _ O (lv_sub hl [0, 1, 2, 3, 4, 5, 6] rfl) hf
def C_X0_flowsOn_b132 (Δ : DT) (kb11 : ST → Int32 → Int32 → Int32 → Int32 → Int64 → Int32 → Option (ST)) (σ : ST) (x1 : Int32) (x2 : Int32) (x3 : Int32) (x4 : Int32) (x5 : Int64) (x7 : Int32) (x8 : Int64) (x10 : Int32) (s1 : Int64) (s2 : Int64) : Option (ST) :=
  lt1 (sL σ 0 0 0 13 (s1 + s2)) (fun σ_1 => (if x10 = 0 then C_X0_flowsOn_b160 Δ kb11 σ_1 x1 x2 x3 x4 x5 x7 x8 x10 (gL σ_1 0 0 0 14) x8 0 else C_X0_flowsOn_b160 Δ kb11 σ_1 x1 x2 x3 x4 x5 x7 x8 x10 (gL σ_1 0 0 0 14) x8 1))
theorem w_C_X0_flowsOn_b132 {Δ : DT} (X : FX p m c meth s args RX0 cX0_flowsOn 11 none) (K : XK D d A s) {z : ST} {kb11 : ST → Int32 → Int32 → Int32 → Int32 → Int64 → Int32 → Option (ST)} (hkb11 : ∀ (σ : ST) (x1 : Int32) (x2 : Int32) (x3 : Int32) (x4 : Int32) (x5 : Int64) (x7 : Int32) (ls : Array Slot) (H : Heap) (locs : List Loc), XH D A s.heap (hC hs) (xct (LC Δ) (okC Δ) (hC hs) d σ) H locs → lv_has ls 11 [(0, .ref ((hC hs) 0 0 0)), (1, .int x1), (2, .int x2), (3, .int x3), (4, .int x4), (5, .long x5), (7, .int x7)] → kb11 σ x1 x2 x3 x4 x5 x7 = some z → W p l e (rmD 1 0 0) s m args below meth c H locs 0 0 (MQ below (Qv D (pu z) (cw (hC hs) (LC Δ) (okC Δ) d) A) args s 0 0 A) (F0 m 11 ls [])) (σ : ST) (x1 : Int32) (x2 : Int32) (x3 : Int32) (x4 : Int32) (x5 : Int64) (x7 : Int32) (x8 : Int64) (x10 : Int32) (s1 : Int64) (s2 : Int64) (ls : Array Slot) (H : Heap) (locs : List Loc) (O : XH D A s.heap (hC hs) (xct (LC Δ) (okC Δ) (hC hs) d σ) H locs) (hl : lv_has ls 11 [(0, .ref ((hC hs) 0 0 0)), (1, .int x1), (2, .int x2), (3, .int x3), (4, .int x4), (5, .long x5), (7, .int x7), (8, .long x8), (10, .int x10)]) (hf : C_X0_flowsOn_b132 Δ kb11 σ x1 x2 x3 x4 x5 x7 x8 x10 s1 s2 = some z) : W p l e (rmD 1 0 0) s m args below meth c H locs 0 0 (MQ below (Qv D (pu z) (cw (hC hs) (LC Δ) (okC Δ) d) A) args s 0 0 A) (F0 m 132 ls [.long s2, .long s1, .ref ((hC hs) 0 0 0)]) := by
  have hx := X.1.1; have hb := X.1.2.1
  rw [C_X0_flowsOn_b132] at hf
  refine lv_ladd hx hb dX0_flowsOn_132 ?_
  obtain ⟨σ_1, eσ_1, hf⟩ := lt1_s hf
  refine x_pL X K O 13 rfl LC_0 rfl rfl in_X0 tyX0_ok nmX0 (by decide) q387 rfl rfl rfl dX0_flowsOn_133 (fun H locs O => ?_)
  rw [← eσ_1] at O
  refine lv_aload_n hx hb dX0_flowsOn_136 rfl (lv_at hl 0 rfl) ?_
  refine lv_dup hx hb dX0_flowsOn_137 rfl ?_
  refine x_gL X K O 14 rfl LC_0 rfl rfl in_X0 (by decide) q388 dX0_flowsOn_138 ?_
  refine lv_lload hx hb dX0_flowsOn_141 (lv_at hl 7 rfl) ?_
  refine lv_aload_n hx hb dX0_flowsOn_143 rfl (lv_at hl 0 rfl) ?_
  refine x_gF X K O 6 rfl LC_0 rfl rfl in_X0 (by decide) q379 dX0_flowsOn_144 ?_
  refine x_gFN X K O 2 rfl LC_1 rfl rfl in_X1 (by decide) q300 dX0_flowsOn_147 ?_
  refine lv_iload hx hb dX0_flowsOn_150 (lv_at hl 8 rfl) ?_
  refine lv_if_eq (tgt := 159) hx hb dX0_flowsOn_152 (by decide) (fun c_2 => ?_) (fun c_2 => ?_)
  · replace hf := if_t c_2 hf
    refine lv_iconst (v := 0) hx hb dX0_flowsOn_159 (by decide) ?_
    exact w_C_X0_flowsOn_b160 X K hkb11 _ _ _ _ _ _ _ _ _ _ _ _ ls _ _ O (lv_sub hl [0, 1, 2, 3, 4, 5, 6, 7, 8] rfl) hf
  · replace hf := if_f c_2 hf
    refine lv_iconst (v := 1) hx hb dX0_flowsOn_155 (by decide) ?_
    refine lv_goto (tgt := 160) hx hb dX0_flowsOn_156 (by decide) ?_
    exact w_C_X0_flowsOn_b160 X K hkb11 _ _ _ _ _ _ _ _ _ _ _ _ ls _ _ O (lv_sub hl [0, 1, 2, 3, 4, 5, 6, 7, 8] rfl) hf
def C_X0_flowsOn_b110 (Δ : DT) (kb11 : ST → Int32 → Int32 → Int32 → Int32 → Int64 → Int32 → Option (ST)) (σ : ST) (x1 : Int32) (x2 : Int32) (x3 : Int32) (x4 : Int32) (x5 : Int64) (x7 : Int32) (x8 : Int64) (x10 : Int32) (s0a : Nat) (s1 : Int32) : Option (ST) :=
  ck (okI s1 25) (ck (okI s1 25) (lt1 (sL σ 12 s0a 0 (Int32.toNatClampNeg s1) ((gL σ 12 s0a 0 (Int32.toNatClampNeg s1)) + x8)) (fun σ_3 => (if x10 = 0 then C_X0_flowsOn_b132 Δ kb11 σ_3 x1 x2 x3 x4 x5 x7 x8 x10 (gL σ_3 0 0 0 13) 0 else C_X0_flowsOn_b132 Δ kb11 σ_3 x1 x2 x3 x4 x5 x7 x8 x10 (gL σ_3 0 0 0 13) x8))))
theorem w_C_X0_flowsOn_b110 {Δ : DT} (X : FX p m c meth s args RX0 cX0_flowsOn 11 none) (K : XK D d A s) {z : ST} {kb11 : ST → Int32 → Int32 → Int32 → Int32 → Int64 → Int32 → Option (ST)} (hkb11 : ∀ (σ : ST) (x1 : Int32) (x2 : Int32) (x3 : Int32) (x4 : Int32) (x5 : Int64) (x7 : Int32) (ls : Array Slot) (H : Heap) (locs : List Loc), XH D A s.heap (hC hs) (xct (LC Δ) (okC Δ) (hC hs) d σ) H locs → lv_has ls 11 [(0, .ref ((hC hs) 0 0 0)), (1, .int x1), (2, .int x2), (3, .int x3), (4, .int x4), (5, .long x5), (7, .int x7)] → kb11 σ x1 x2 x3 x4 x5 x7 = some z → W p l e (rmD 1 0 0) s m args below meth c H locs 0 0 (MQ below (Qv D (pu z) (cw (hC hs) (LC Δ) (okC Δ) d) A) args s 0 0 A) (F0 m 11 ls [])) (σ : ST) (x1 : Int32) (x2 : Int32) (x3 : Int32) (x4 : Int32) (x5 : Int64) (x7 : Int32) (x8 : Int64) (x10 : Int32) (s0a : Nat) (s1 : Int32) (ks0 : (okC Δ) 12 s0a 0 = true) (ls : Array Slot) (H : Heap) (locs : List Loc) (O : XH D A s.heap (hC hs) (xct (LC Δ) (okC Δ) (hC hs) d σ) H locs) (hl : lv_has ls 11 [(0, .ref ((hC hs) 0 0 0)), (1, .int x1), (2, .int x2), (3, .int x3), (4, .int x4), (5, .long x5), (7, .int x7), (8, .long x8), (10, .int x10)]) (hf : C_X0_flowsOn_b110 Δ kb11 σ x1 x2 x3 x4 x5 x7 x8 x10 s0a s1 = some z) : W p l e (rmD 1 0 0) s m args below meth c H locs 0 0 (MQ below (Qv D (pu z) (cw (hC hs) (LC Δ) (okC Δ) d) A) args s 0 0 A) (F0 m 110 ls [.int s1, .ref ((hC hs) 12 s0a 0)]) := by
  have hx := X.1.1; have hb := X.1.2.1
  rw [C_X0_flowsOn_b110] at hf
  refine lv_dup2_11 hx hb dX0_flowsOn_110 rfl rfl ?_
  obtain ⟨c_1, hf⟩ := ck_s hf
  refine x_lld X K O ks0 LC_12 c_1 (j := (Int32.toNatClampNeg s1)) rfl dX0_flowsOn_111 ?_
  refine lv_lload hx hb dX0_flowsOn_112 (lv_at hl 7 rfl) ?_
  refine lv_ladd hx hb dX0_flowsOn_114 ?_
  obtain ⟨c_2, hf⟩ := ck_s hf
  obtain ⟨σ_3, eσ_3, hf⟩ := lt1_s hf
  refine x_lst X K O ks0 LC_12 c_2 (j := (Int32.toNatClampNeg s1)) rfl dX0_flowsOn_115 (fun H locs O => ?_)
  rw [← eσ_3] at O
  refine lv_aload_n hx hb dX0_flowsOn_116 rfl (lv_at hl 0 rfl) ?_
  refine lv_dup hx hb dX0_flowsOn_117 rfl ?_
  refine x_gL X K O 13 rfl LC_0 rfl rfl in_X0 (by decide) q387 dX0_flowsOn_118 ?_
  refine lv_iload hx hb dX0_flowsOn_121 (lv_at hl 8 rfl) ?_
  refine lv_if_eq (tgt := 131) hx hb dX0_flowsOn_123 (by decide) (fun c_4 => ?_) (fun c_4 => ?_)
  · replace hf := if_t c_4 hf
    refine lv_lconst (v := 0) hx hb dX0_flowsOn_131 (by decide) ?_
    exact w_C_X0_flowsOn_b132 X K hkb11 _ _ _ _ _ _ _ _ _ _ _ ls _ _ O (lv_sub hl [0, 1, 2, 3, 4, 5, 6, 7, 8] rfl) hf
  · replace hf := if_f c_4 hf
    refine lv_lload hx hb dX0_flowsOn_126 (lv_at hl 7 rfl) ?_
    refine lv_goto (tgt := 132) hx hb dX0_flowsOn_128 (by decide) ?_
    exact w_C_X0_flowsOn_b132 X K hkb11 _ _ _ _ _ _ _ _ _ _ _ ls _ _ O (lv_sub hl [0, 1, 2, 3, 4, 5, 6, 7, 8] rfl) hf
def C_X0_flowsOn_b85 (Δ : DT) (kb11 : ST → Int32 → Int32 → Int32 → Int32 → Int64 → Int32 → Option (ST)) (σ : ST) (x1 : Int32) (x2 : Int32) (x3 : Int32) (x4 : Int32) (x5 : Int64) (x7 : Int32) (x8 : Int64) (s0 : Int32) : Option (ST) :=
  ck ((okC Δ) 12 (gR σ 0 0 0 12) 0) ((if s0 = 0 then C_X0_flowsOn_b110 Δ kb11 σ x1 x2 x3 x4 x5 x7 x8 s0 (gR σ 0 0 0 12) (imin 24 (x1 + 1)) else C_X0_flowsOn_b110 Δ kb11 σ x1 x2 x3 x4 x5 x7 x8 s0 (gR σ 0 0 0 12) (x1 - x3)))
theorem w_C_X0_flowsOn_b85 {Δ : DT} (X : FX p m c meth s args RX0 cX0_flowsOn 11 none) (K : XK D d A s) {z : ST} {kb11 : ST → Int32 → Int32 → Int32 → Int32 → Int64 → Int32 → Option (ST)} (hkb11 : ∀ (σ : ST) (x1 : Int32) (x2 : Int32) (x3 : Int32) (x4 : Int32) (x5 : Int64) (x7 : Int32) (ls : Array Slot) (H : Heap) (locs : List Loc), XH D A s.heap (hC hs) (xct (LC Δ) (okC Δ) (hC hs) d σ) H locs → lv_has ls 11 [(0, .ref ((hC hs) 0 0 0)), (1, .int x1), (2, .int x2), (3, .int x3), (4, .int x4), (5, .long x5), (7, .int x7)] → kb11 σ x1 x2 x3 x4 x5 x7 = some z → W p l e (rmD 1 0 0) s m args below meth c H locs 0 0 (MQ below (Qv D (pu z) (cw (hC hs) (LC Δ) (okC Δ) d) A) args s 0 0 A) (F0 m 11 ls [])) (σ : ST) (x1 : Int32) (x2 : Int32) (x3 : Int32) (x4 : Int32) (x5 : Int64) (x7 : Int32) (x8 : Int64) (s0 : Int32) (ls : Array Slot) (H : Heap) (locs : List Loc) (O : XH D A s.heap (hC hs) (xct (LC Δ) (okC Δ) (hC hs) d σ) H locs) (hl : lv_has ls 11 [(0, .ref ((hC hs) 0 0 0)), (1, .int x1), (2, .int x2), (3, .int x3), (4, .int x4), (5, .long x5), (7, .int x7), (8, .long x8)]) (hf : C_X0_flowsOn_b85 Δ kb11 σ x1 x2 x3 x4 x5 x7 x8 s0 = some z) : W p l e (rmD 1 0 0) s m args below meth c H locs 0 0 (MQ below (Qv D (pu z) (cw (hC hs) (LC Δ) (okC Δ) d) A) args s 0 0 A) (F0 m 85 ls [.int s0]) := by
  have hx := X.1.1; have hb := X.1.2.1
  rw [C_X0_flowsOn_b85] at hf
  refine lv_istore (lv' := [(10, .int s0), (0, .ref ((hC hs) 0 0 0)), (1, .int x1), (2, .int x2), (3, .int x3), (4, .int x4), (5, .long x5), (7, .int x7), (8, .long x8)]) hx hb dX0_flowsOn_85 hl (by decide) rfl (fun ls hl => ?_)
  refine lv_aload_n hx hb dX0_flowsOn_87 rfl (lv_at hl 1 rfl) ?_
  obtain ⟨c_1, hf⟩ := ck_s hf
  refine x_gR X K O 12 rfl LC_0 rfl rfl in_X0 (by decide) q386 dX0_flowsOn_88 ?_
  refine lv_iload hx hb dX0_flowsOn_91 (lv_at hl 0 rfl) ?_
  refine lv_if_eq (tgt := 102) hx hb dX0_flowsOn_93 (by decide) (fun c_2 => ?_) (fun c_2 => ?_)
  · replace hf := if_t c_2 hf
    refine lv_bipush (v := 24) hx hb dX0_flowsOn_102 (by decide) ?_
    refine lv_iload_n hx hb dX0_flowsOn_104 rfl (lv_at hl 2 rfl) ?_
    refine lv_iconst (v := 1) hx hb dX0_flowsOn_105 (by decide) ?_
    refine lv_iadd hx hb dX0_flowsOn_106 ?_
    refine va_mmin hx hb (X.1.2.2.1.trans hl.1.symm) X.1.2.2.2.1 (X.1.2.2.2.2 _ q954) (X.1.2.2.2.2 _ q230) (X.1.2.2.2.2 _ q116) (X.1.2.2.2.2 _ q231) (by decide) (Nat.le_of_ble_eq_true rfl) (Nat.le_refl _) (Nat.le_refl _) dX0_flowsOn_107 ?_
    refine x_top (w := .int (imin 24 (x1 + 1))) rfl ?_
    exact w_C_X0_flowsOn_b110 X K hkb11 _ _ _ _ _ _ _ _ _ _ _ c_1 ls _ _ O (lv_sub hl [1, 2, 3, 4, 5, 6, 7, 8, 0] rfl) hf
  · replace hf := if_f c_2 hf
    refine lv_iload_n hx hb dX0_flowsOn_96 rfl (lv_at hl 2 rfl) ?_
    refine lv_iload_n hx hb dX0_flowsOn_97 rfl (lv_at hl 4 rfl) ?_
    refine lv_isub hx hb dX0_flowsOn_98 ?_
    refine lv_goto (tgt := 110) hx hb dX0_flowsOn_99 (by decide) ?_
    exact w_C_X0_flowsOn_b110 X K hkb11 _ _ _ _ _ _ _ _ _ _ _ c_1 ls _ _ O (lv_sub hl [1, 2, 3, 4, 5, 6, 7, 8, 0] rfl) hf
def C_X0_flowsOn_b84 (Δ : DT) (kb11 : ST → Int32 → Int32 → Int32 → Int32 → Int64 → Int32 → Option (ST)) (σ : ST) (x1 : Int32) (x2 : Int32) (x3 : Int32) (x4 : Int32) (x5 : Int64) (x7 : Int32) (x8 : Int64) : Option (ST) :=
  C_X0_flowsOn_b85 Δ kb11 σ x1 x2 x3 x4 x5 x7 x8 0
theorem w_C_X0_flowsOn_b84 {Δ : DT} (X : FX p m c meth s args RX0 cX0_flowsOn 11 none) (K : XK D d A s) {z : ST} {kb11 : ST → Int32 → Int32 → Int32 → Int32 → Int64 → Int32 → Option (ST)} (hkb11 : ∀ (σ : ST) (x1 : Int32) (x2 : Int32) (x3 : Int32) (x4 : Int32) (x5 : Int64) (x7 : Int32) (ls : Array Slot) (H : Heap) (locs : List Loc), XH D A s.heap (hC hs) (xct (LC Δ) (okC Δ) (hC hs) d σ) H locs → lv_has ls 11 [(0, .ref ((hC hs) 0 0 0)), (1, .int x1), (2, .int x2), (3, .int x3), (4, .int x4), (5, .long x5), (7, .int x7)] → kb11 σ x1 x2 x3 x4 x5 x7 = some z → W p l e (rmD 1 0 0) s m args below meth c H locs 0 0 (MQ below (Qv D (pu z) (cw (hC hs) (LC Δ) (okC Δ) d) A) args s 0 0 A) (F0 m 11 ls [])) (σ : ST) (x1 : Int32) (x2 : Int32) (x3 : Int32) (x4 : Int32) (x5 : Int64) (x7 : Int32) (x8 : Int64) (ls : Array Slot) (H : Heap) (locs : List Loc) (O : XH D A s.heap (hC hs) (xct (LC Δ) (okC Δ) (hC hs) d σ) H locs) (hl : lv_has ls 11 [(0, .ref ((hC hs) 0 0 0)), (1, .int x1), (2, .int x2), (3, .int x3), (4, .int x4), (5, .long x5), (7, .int x7), (8, .long x8)]) (hf : C_X0_flowsOn_b84 Δ kb11 σ x1 x2 x3 x4 x5 x7 x8 = some z) : W p l e (rmD 1 0 0) s m args below meth c H locs 0 0 (MQ below (Qv D (pu z) (cw (hC hs) (LC Δ) (okC Δ) d) A) args s 0 0 A) (F0 m 84 ls []) := by
  have hx := X.1.1; have hb := X.1.2.1
  rw [C_X0_flowsOn_b84] at hf
  refine lv_iconst (v := 0) hx hb dX0_flowsOn_84 (by decide) ?_
  exact w_C_X0_flowsOn_b85 X K hkb11 _ _ _ _ _ _ _ _ _ ls _ _ O (lv_sub hl [0, 1, 2, 3, 4, 5, 6, 7] rfl) hf
def C_X0_flowsOn_b60 (Δ : DT) (kb11 : ST → Int32 → Int32 → Int32 → Int32 → Int64 → Int32 → Option (ST)) (σ : ST) (x1 : Int32) (x2 : Int32) (x3 : Int32) (x4 : Int32) (x5 : Int64) (x7 : Int32) (s0 : Int64) : Option (ST) :=
  lt1 (x5 - s0) (fun x5_1 => (if x7 < x2 then C_X0_flowsOn_b84 Δ kb11 σ x1 x2 x3 x4 x5_1 x7 s0 else (if x1 < x3 then C_X0_flowsOn_b84 Δ kb11 σ x1 x2 x3 x4 x5_1 x7 s0 else C_X0_flowsOn_b85 Δ kb11 σ x1 x2 x3 x4 x5_1 x7 s0 1)))
theorem w_C_X0_flowsOn_b60 {Δ : DT} (X : FX p m c meth s args RX0 cX0_flowsOn 11 none) (K : XK D d A s) {z : ST} {kb11 : ST → Int32 → Int32 → Int32 → Int32 → Int64 → Int32 → Option (ST)} (hkb11 : ∀ (σ : ST) (x1 : Int32) (x2 : Int32) (x3 : Int32) (x4 : Int32) (x5 : Int64) (x7 : Int32) (ls : Array Slot) (H : Heap) (locs : List Loc), XH D A s.heap (hC hs) (xct (LC Δ) (okC Δ) (hC hs) d σ) H locs → lv_has ls 11 [(0, .ref ((hC hs) 0 0 0)), (1, .int x1), (2, .int x2), (3, .int x3), (4, .int x4), (5, .long x5), (7, .int x7)] → kb11 σ x1 x2 x3 x4 x5 x7 = some z → W p l e (rmD 1 0 0) s m args below meth c H locs 0 0 (MQ below (Qv D (pu z) (cw (hC hs) (LC Δ) (okC Δ) d) A) args s 0 0 A) (F0 m 11 ls [])) (σ : ST) (x1 : Int32) (x2 : Int32) (x3 : Int32) (x4 : Int32) (x5 : Int64) (x7 : Int32) (s0 : Int64) (ls : Array Slot) (H : Heap) (locs : List Loc) (O : XH D A s.heap (hC hs) (xct (LC Δ) (okC Δ) (hC hs) d σ) H locs) (hl : lv_has ls 11 [(0, .ref ((hC hs) 0 0 0)), (1, .int x1), (2, .int x2), (3, .int x3), (4, .int x4), (5, .long x5), (7, .int x7)]) (hf : C_X0_flowsOn_b60 Δ kb11 σ x1 x2 x3 x4 x5 x7 s0 = some z) : W p l e (rmD 1 0 0) s m args below meth c H locs 0 0 (MQ below (Qv D (pu z) (cw (hC hs) (LC Δ) (okC Δ) d) A) args s 0 0 A) (F0 m 60 ls [.long s0]) := by
  have hx := X.1.1; have hb := X.1.2.1
  rw [C_X0_flowsOn_b60] at hf
  refine lv_lstore (lv' := [(8, .long s0), (0, .ref ((hC hs) 0 0 0)), (1, .int x1), (2, .int x2), (3, .int x3), (4, .int x4), (5, .long x5), (7, .int x7)]) hx hb dX0_flowsOn_60 hl (by decide) rfl (fun ls hl => ?_)
  refine lv_lload hx hb dX0_flowsOn_62 (lv_at hl 6 rfl) ?_
  refine lv_lload hx hb dX0_flowsOn_64 (lv_at hl 0 rfl) ?_
  refine lv_lsub hx hb dX0_flowsOn_66 ?_
  obtain ⟨x5_1, ex5_1, hf⟩ := lt1_s hf
  refine x_top (w := .long x5_1) (by rw [ex5_1]) ?_
  refine lv_lstore (lv' := [(5, .long x5_1), (8, .long s0), (0, .ref ((hC hs) 0 0 0)), (1, .int x1), (2, .int x2), (3, .int x3), (4, .int x4), (7, .int x7)]) hx hb dX0_flowsOn_67 hl (by decide) rfl (fun ls hl => ?_)
  refine lv_iload hx hb dX0_flowsOn_69 (lv_at hl 7 rfl) ?_
  refine lv_iload_n hx hb dX0_flowsOn_71 rfl (lv_at hl 4 rfl) ?_
  refine lv_icmp_lt (tgt := 84) hx hb dX0_flowsOn_72 (by decide) (fun c_2 => ?_) (fun c_2 => ?_)
  · replace hf := if_t c_2 hf
    exact w_C_X0_flowsOn_b84 X K hkb11 _ _ _ _ _ _ _ _ ls _ _ O (lv_sub hl [2, 3, 4, 5, 6, 0, 7, 1] rfl) hf
  · replace hf := if_f c_2 hf
    refine lv_iload_n hx hb dX0_flowsOn_75 rfl (lv_at hl 3 rfl) ?_
    refine lv_iload_n hx hb dX0_flowsOn_76 rfl (lv_at hl 5 rfl) ?_
    refine lv_icmp_lt (tgt := 84) hx hb dX0_flowsOn_77 (by decide) (fun c_3 => ?_) (fun c_3 => ?_)
    · replace hf := if_t c_3 hf
      exact w_C_X0_flowsOn_b84 X K hkb11 _ _ _ _ _ _ _ _ ls _ _ O (lv_sub hl [2, 3, 4, 5, 6, 0, 7, 1] rfl) hf
    · replace hf := if_f c_3 hf
      refine lv_iconst (v := 1) hx hb dX0_flowsOn_80 (by decide) ?_
      refine lv_goto (tgt := 85) hx hb dX0_flowsOn_81 (by decide) ?_
      exact w_C_X0_flowsOn_b85 X K hkb11 _ _ _ _ _ _ _ _ _ ls _ _ O (lv_sub hl [2, 3, 4, 5, 6, 0, 7, 1] rfl) hf
def C_X0_flowsOn_b11 (Δ : DT) : Nat → ST → Int32 → Int32 → Int32 → Int32 → Int64 → Int32 → Option (ST)
  | 0, _, _, _, _, _, _, _ => none
  | n + 1, σ, x1, x2, x3, x4, x5, x7 =>
    (if x4 < x7 then some σ else (if x7 = x4 then C_X0_flowsOn_b60 Δ (C_X0_flowsOn_b11 Δ n) σ x1 x2 x3 x4 x5 x7 x5 else ck ((okC Δ) 12 (gR σ 0 0 0 11) 0) (ck (okI x1 25) (ck (okI (10 + x7) 23) (bn2 (C_X1_weights Δ 0 σ) (fun σ_6 r_7 => ck (decide (¬ (r_7.toInt64) = 0)) (C_X0_flowsOn_b60 Δ (C_X0_flowsOn_b11 Δ n) σ_6 x1 x2 x3 x4 x5 x7 (((gL σ 12 (gR σ 0 0 0 11) 0 (Int32.toNatClampNeg x1)) * (Int32.toInt64 (gI σ 4 0 0 (Int32.toNatClampNeg (10 + x7))))) / (r_7.toInt64)))))))))
theorem w_C_X0_flowsOn_b11 {Δ : DT} (X : FX p m c meth s args RX0 cX0_flowsOn 11 none) (K : XK D d A s) {z : ST} : ∀ (n : Nat) (σ : ST) (x1 : Int32) (x2 : Int32) (x3 : Int32) (x4 : Int32) (x5 : Int64) (x7 : Int32) (ls : Array Slot) (H : Heap) (locs : List Loc), XH D A s.heap (hC hs) (xct (LC Δ) (okC Δ) (hC hs) d σ) H locs → lv_has ls 11 [(0, .ref ((hC hs) 0 0 0)), (1, .int x1), (2, .int x2), (3, .int x3), (4, .int x4), (5, .long x5), (7, .int x7)] → C_X0_flowsOn_b11 Δ n σ x1 x2 x3 x4 x5 x7 = some z → W p l e (rmD 1 0 0) s m args below meth c H locs 0 0 (MQ below (Qv D (pu z) (cw (hC hs) (LC Δ) (okC Δ) d) A) args s 0 0 A) (F0 m 11 ls []) := by
  have hx := X.1.1; have hb := X.1.2.1
  intro n
  induction n with
  | zero =>
    intro σ x1 x2 x3 x4 x5 x7 ls H locs O hl hf
    exact absurd hf (fun q => by cases q)
  | succ n ih =>
    intro σ x1 x2 x3 x4 x5 x7 ls H locs O hl hf
    rw [C_X0_flowsOn_b11] at hf
    refine lv_iload hx hb dX0_flowsOn_11 (lv_at hl 6 rfl) ?_
    refine lv_iload hx hb dX0_flowsOn_13 (lv_at hl 4 rfl) ?_
    refine lv_icmp_gt (tgt := 232) hx hb dX0_flowsOn_15 (by decide) (fun c_1 => ?_) (fun c_1 => ?_)
    · replace hf := if_t c_1 hf
      exact x_vret X O rfl _ (Option.some.inj hf).symm rfl dX0_flowsOn_232
    · replace hf := if_f c_1 hf
      refine lv_iload hx hb dX0_flowsOn_18 (lv_at hl 6 rfl) ?_
      refine lv_iload hx hb dX0_flowsOn_20 (lv_at hl 4 rfl) ?_
      refine lv_icmp_ne (tgt := 30) hx hb dX0_flowsOn_22 (by decide) (fun c_2 => ?_) (fun c_2 => ?_)
      · replace hf := if_f c_2 hf
        refine lv_aload_n hx hb dX0_flowsOn_30 rfl (lv_at hl 0 rfl) ?_
        obtain ⟨c_3, hf⟩ := ck_s hf
        refine x_gR X K O 11 rfl LC_0 rfl rfl in_X0 (by decide) q385 dX0_flowsOn_31 ?_
        refine lv_iload_n hx hb dX0_flowsOn_34 rfl (lv_at hl 1 rfl) ?_
        obtain ⟨c_4, hf⟩ := ck_s hf
        refine x_lld X K O c_3 LC_12 c_4 (j := (Int32.toNatClampNeg x1)) rfl dX0_flowsOn_35 ?_
        refine lv_aload_n hx hb dX0_flowsOn_36 rfl (lv_at hl 0 rfl) ?_
        refine x_gF X K O 6 rfl LC_0 rfl rfl in_X0 (by decide) q379 dX0_flowsOn_37 ?_
        refine x_gFN X K O 2 rfl LC_1 rfl rfl in_X1 (by decide) q300 dX0_flowsOn_40 ?_
        refine lv_bipush (v := 10) hx hb dX0_flowsOn_43 (by decide) ?_
        refine lv_iload hx hb dX0_flowsOn_45 (lv_at hl 6 rfl) ?_
        refine lv_iadd hx hb dX0_flowsOn_47 ?_
        obtain ⟨c_5, hf⟩ := ck_s hf
        refine x_ild X K O rfl LC_4 c_5 (j := (Int32.toNatClampNeg (10 + x7))) rfl dX0_flowsOn_48 ?_
        refine lv_i2l (v := (Int32.toInt64 (gI σ 4 0 0 (Int32.toNatClampNeg (10 + x7))))) hx hb dX0_flowsOn_49 rfl ?_
        refine lv_lmul hx hb dX0_flowsOn_50 ?_
        refine lv_aload_n hx hb dX0_flowsOn_51 rfl (lv_at hl 0 rfl) ?_
        refine x_gF X K O 6 rfl LC_0 rfl rfl in_X0 (by decide) q379 dX0_flowsOn_52 ?_
        obtain ⟨σ_6, r_7, hg, hf⟩ := bn2_s hf
        refine x_calli (x_runV (As := []) (rest := [.long ((gL σ 12 (gR σ 0 0 0 11) 0 (Int32.toNatClampNeg x1)) * (Int32.toInt64 (gI σ 4 0 0 (Int32.toNatClampNeg (10 + x7)))))]) X K O (xct_obj rfl LC_1) rfl (m_C_X1_weights rfl hg) EN_b EN_h (lw_V q943 q925 q926 q119 q927) 0 rfl hl.1 (Nat.le_of_ble_eq_true rfl) hdV_X1_weights ⟨by decide, by decide⟩ ⟨Nat.le_refl _, Nat.le_refl _⟩ dX0_flowsOn_55) (fun r u H locs hp O _ => ?_)
        cases hp
        have O : XH D A s.heap (hC hs) (xct (LC Δ) (okC Δ) (hC hs) d σ_6) H locs := O
        refine lv_i2l (v := (r_7.toInt64)) hx hb dX0_flowsOn_58 rfl ?_
        obtain ⟨c_8, hf⟩ := ck_s hf
        refine lv_ldiv hx hb dX0_flowsOn_59 (of_decide_eq_true c_8) ?_
        exact w_C_X0_flowsOn_b60 X K ih _ _ _ _ _ _ _ _ ls _ _ O (lv_sub hl [0, 1, 2, 3, 4, 5, 6] rfl) hf
      · replace hf := if_t c_2 hf
        refine lv_lload hx hb dX0_flowsOn_25 (lv_at hl 5 rfl) ?_
        refine lv_goto (tgt := 60) hx hb dX0_flowsOn_27 (by decide) ?_
        exact w_C_X0_flowsOn_b60 X K ih _ _ _ _ _ _ _ _ ls _ _ O (lv_sub hl [0, 1, 2, 3, 4, 5, 6] rfl) hf
def C_X0_flowsOn (Δ : DT) (σ : ST) (p1 : Int32) (p2 : Int32) (p3 : Int32) (p4 : Int32) : Option (ST) :=
  ck ((okC Δ) 12 (gR σ 0 0 0 11) 0) (ck (okI p1 25) (lt1 (gL σ 12 (gR σ 0 0 0 11) 0 (Int32.toNatClampNeg p1)) (fun x5_3 => C_X0_flowsOn_b11 Δ FUEL σ p1 p2 p3 p4 x5_3 1)))
theorem m_C_X0_flowsOn {l : Launch} {D : va_G} {d : Nat → ClassId} {hs : IX} {Δ : DT} {p1 : Int32} {p2 : Int32} {p3 : Int32} {p4 : Int32} {σ : ST} {z : ST} (hf : C_X0_flowsOn Δ σ p1 p2 p3 p4 = some z) : XM l D d EN yX0_flowsOn cX0_flowsOn 11 none 1 0 0 [.ref ((hC hs) 0 0 0), .int p1, .int p2, .int p3, .int p4] (hC hs) (xct (LC Δ) (okC Δ) (hC hs) d σ) (Qv D (pu z) (cw (hC hs) (LC Δ) (okC Δ) d)) := by
  refine XM.of (by decide +kernel) (Nat.le_of_ble_eq_true rfl) ?_
  intro p e s m below meth c A ls X _ K _ O hl
  have hl : lv_has ls 11 [(0, .ref ((hC hs) 0 0 0)), (1, .int p1), (2, .int p2), (3, .int p3), (4, .int p4)] := hl
  have hx := X.1.1; have hb := X.1.2.1
  rw [C_X0_flowsOn] at hf
  refine lv_aload_n hx hb dX0_flowsOn_0 rfl (lv_at hl 0 rfl) ?_
  obtain ⟨c_1, hf⟩ := ck_s hf
  refine x_gR X K O 11 rfl LC_0 rfl rfl in_X0 (by decide) q385 dX0_flowsOn_1 ?_
  refine lv_iload_n hx hb dX0_flowsOn_4 rfl (lv_at hl 1 rfl) ?_
  obtain ⟨c_2, hf⟩ := ck_s hf
  refine x_lld X K O c_1 LC_12 c_2 (j := (Int32.toNatClampNeg p1)) rfl dX0_flowsOn_5 ?_
  obtain ⟨x5_3, ex5_3, hf⟩ := lt1_s hf
  refine x_top (w := .long x5_3) (by rw [ex5_3]) ?_
  refine lv_lstore (lv' := [(5, .long x5_3), (0, .ref ((hC hs) 0 0 0)), (1, .int p1), (2, .int p2), (3, .int p3), (4, .int p4)]) hx hb dX0_flowsOn_6 hl (by decide) rfl (fun ls hl => ?_)
  refine lv_iconst (v := 1) hx hb dX0_flowsOn_8 (by decide) ?_
  refine lv_istore (lv' := [(7, .int 1), (5, .long x5_3), (0, .ref ((hC hs) 0 0 0)), (1, .int p1), (2, .int p2), (3, .int p3), (4, .int p4)]) hx hb dX0_flowsOn_9 hl (by decide) rfl (fun ls hl => ?_)
  exact w_C_X0_flowsOn_b11 X K _ _ _ _ _ _ _ _ ls _ _ O (lv_sub hl [2, 3, 4, 5, 6, 1, 0] rfl) hf
theorem hdS_J4_floorDiv : (yJ4_floorDiv.cls ≠ "java/lang/invoke/MethodHandle" ∧ yJ4_floorDiv.cls ≠ "java/lang/invoke/VarHandle" ∧ (parseMethodDescriptor yJ4_floorDiv.desc).map (fun d => d.parameters.length) = some 2) := by decide +kernel
theorem hdV_X0_flowsOn : yX0_flowsOn.cls = RX0 ∧ (yX0_flowsOn.cls ≠ "java/lang/invoke/MethodHandle" ∧ yX0_flowsOn.cls ≠ "java/lang/invoke/VarHandle" ∧ (parseMethodDescriptor yX0_flowsOn.desc).map (fun d => d.parameters.length) = some 4) := by decide +kernel
theorem hdV_X0_greatestSize : yX0_greatestSize.cls = RX0 ∧ (yX0_greatestSize.cls ≠ "java/lang/invoke/MethodHandle" ∧ yX0_greatestSize.cls ≠ "java/lang/invoke/VarHandle" ∧ (parseMethodDescriptor yX0_greatestSize.desc).map (fun d => d.parameters.length) = some 0) := by decide +kernel
def C_X0_rounds_b92 (Δ : DT) (kb44 : ST → Int32 → Int32 → Int32 → Int32 → Int32 → Option (ST)) : Nat → ST → Int32 → Int32 → Int32 → Int32 → Int32 → Int32 → Option (ST)
  | 0, _, _, _, _, _, _, _ => none
  | n + 1, σ, x1, x2, x3, x4, x5, x6 =>
    (if 24 < x6 then ck ((okC Δ) 12 (gR σ 0 0 0 11) 0) (ck ((okC Δ) 12 (gR σ 0 0 0 12) 0) (lt1 (sR σ 0 0 0 11 (gR σ 0 0 0 12)) (fun σ_4 => lt1 (sR σ_4 0 0 0 12 (gR σ 0 0 0 11)) (fun σ_5 => lt1 (x5 + 1) (fun x5_6 => kb44 σ_5 x1 x2 x3 x4 x5_6))))) else bn1 (C_X0_flowsOn Δ σ x6 x1 x2 x4) (fun σ_7 => lt1 (x6 + 1) (fun x6_8 => (C_X0_rounds_b92 Δ kb44 n) σ_7 x1 x2 x3 x4 x5 x6_8)))
theorem w_C_X0_rounds_b92 {Δ : DT} (X : FX p m c meth s args RX0 cX0_rounds 7 none) (K : XK D d A s) {z : ST} {kb44 : ST → Int32 → Int32 → Int32 → Int32 → Int32 → Option (ST)} (hkb44 : ∀ (σ : ST) (x1 : Int32) (x2 : Int32) (x3 : Int32) (x4 : Int32) (x5 : Int32) (ls : Array Slot) (H : Heap) (locs : List Loc), XH D A s.heap (hC hs) (xct (LC Δ) (okC Δ) (hC hs) d σ) H locs → lv_has ls 7 [(0, .ref ((hC hs) 0 0 0)), (1, .int x1), (2, .int x2), (3, .int x3), (4, .int x4), (5, .int x5)] → kb44 σ x1 x2 x3 x4 x5 = some z → W p l e (rmD 2 0 0) s m args below meth c H locs 0 0 (MQ below (Qv D (pu z) (cw (hC hs) (LC Δ) (okC Δ) d) A) args s 0 0 A) (F0 m 44 ls [])) : ∀ (n : Nat) (σ : ST) (x1 : Int32) (x2 : Int32) (x3 : Int32) (x4 : Int32) (x5 : Int32) (x6 : Int32) (ls : Array Slot) (H : Heap) (locs : List Loc), XH D A s.heap (hC hs) (xct (LC Δ) (okC Δ) (hC hs) d σ) H locs → lv_has ls 7 [(0, .ref ((hC hs) 0 0 0)), (1, .int x1), (2, .int x2), (3, .int x3), (4, .int x4), (5, .int x5), (6, .int x6)] → C_X0_rounds_b92 Δ kb44 n σ x1 x2 x3 x4 x5 x6 = some z → W p l e (rmD 2 0 0) s m args below meth c H locs 0 0 (MQ below (Qv D (pu z) (cw (hC hs) (LC Δ) (okC Δ) d) A) args s 0 0 A) (F0 m 92 ls []) := by
  have hx := X.1.1; have hb := X.1.2.1
  intro n
  induction n with
  | zero =>
    intro σ x1 x2 x3 x4 x5 x6 ls H locs O hl hf
    exact absurd hf (fun q => by cases q)
  | succ n ih =>
    intro σ x1 x2 x3 x4 x5 x6 ls H locs O hl hf
    rw [C_X0_rounds_b92] at hf
    refine lv_iload hx hb dX0_rounds_92 (lv_at hl 6 rfl) ?_
    refine lv_bipush (v := 24) hx hb dX0_rounds_94 (by decide) ?_
    refine lv_icmp_gt (tgt := 115) hx hb dX0_rounds_96 (by decide) (fun c_1 => ?_) (fun c_1 => ?_)
    · replace hf := if_t c_1 hf
      refine lv_aload_n hx hb dX0_rounds_115 rfl (lv_at hl 0 rfl) ?_
      obtain ⟨c_2, hf⟩ := ck_s hf
      refine x_gR X K O 11 rfl LC_0 rfl rfl in_X0 (by decide) q385 dX0_rounds_116 ?_
      refine lv_astore (lv' := [(6, .ref ((hC hs) 12 (gR σ 0 0 0 11) 0)), (0, .ref ((hC hs) 0 0 0)), (1, .int x1), (2, .int x2), (3, .int x3), (4, .int x4), (5, .int x5)]) hx hb dX0_rounds_119 hl (by decide) rfl (fun ls hl => ?_)
      refine lv_aload_n hx hb dX0_rounds_121 rfl (lv_at hl 1 rfl) ?_
      refine lv_aload_n hx hb dX0_rounds_122 rfl (lv_at hl 1 rfl) ?_
      obtain ⟨c_3, hf⟩ := ck_s hf
      refine x_gR X K O 12 rfl LC_0 rfl rfl in_X0 (by decide) q386 dX0_rounds_123 ?_
      obtain ⟨σ_4, eσ_4, hf⟩ := lt1_s hf
      refine x_pR X K O 11 rfl LC_0 rfl rfl in_X0 tyX0_ok nmX0 (by decide) q385 rfl rfl rfl dX0_rounds_126 (fun H locs O => ?_)
      rw [← eσ_4] at O
      refine lv_aload_n hx hb dX0_rounds_129 rfl (lv_at hl 1 rfl) ?_
      refine lv_aload hx hb dX0_rounds_130 (lv_at hl 0 rfl) ?_
      obtain ⟨σ_5, eσ_5, hf⟩ := lt1_s hf
      refine x_pR X K O 12 rfl LC_0 rfl rfl in_X0 tyX0_ok nmX0 (by decide) q386 rfl rfl rfl dX0_rounds_132 (fun H locs O => ?_)
      rw [← eσ_5] at O
      obtain ⟨x5_6, ex5_6, hf⟩ := lt1_s hf
      refine lv_iinc (v := x5_6) (lv' := [(5, .int x5_6), (6, .ref ((hC hs) 12 (gR σ 0 0 0 11) 0)), (0, .ref ((hC hs) 0 0 0)), (1, .int x1), (2, .int x2), (3, .int x3), (4, .int x4)]) hx hb dX0_rounds_135 hl (k := 6) rfl (by rw [ex5_6]; rfl) (by decide) rfl (fun ls hl => ?_)
      refine lv_goto (tgt := 44) hx hb dX0_rounds_138 (by decide) ?_
      exact hkb44 _ _ _ _ _ _ ls _ _ O (lv_sub hl [2, 3, 4, 5, 6, 0] rfl) hf
    · replace hf := if_f c_1 hf
      refine lv_aload_n hx hb dX0_rounds_99 rfl (lv_at hl 0 rfl) ?_
      refine lv_iload hx hb dX0_rounds_100 (lv_at hl 6 rfl) ?_
      refine lv_iload_n hx hb dX0_rounds_102 rfl (lv_at hl 1 rfl) ?_
      refine lv_iload_n hx hb dX0_rounds_103 rfl (lv_at hl 2 rfl) ?_
      refine lv_iload hx hb dX0_rounds_104 (lv_at hl 4 rfl) ?_
      obtain ⟨σ_7, hg, hf⟩ := bn1_s hf
      refine x_callv (x_runV (As := [.int x6, .int x1, .int x2, .int x4]) (rest := []) X K O (xct_obj rfl LC_0) rfl (m_C_X0_flowsOn hg) EN_b EN_h (lw_V q976 q978 qs34 q111 q979) 4 rfl hl.1 (Nat.le_of_ble_eq_true rfl) hdV_X0_flowsOn ⟨by decide, by decide⟩ ⟨Nat.le_refl _, Nat.le_refl _⟩ dX0_rounds_106) (fun u H locs hp O _ => ?_)
      cases hp
      have O : XH D A s.heap (hC hs) (xct (LC Δ) (okC Δ) (hC hs) d σ_7) H locs := O
      obtain ⟨x6_8, ex6_8, hf⟩ := lt1_s hf
      refine lv_iinc (v := x6_8) (lv' := [(6, .int x6_8), (0, .ref ((hC hs) 0 0 0)), (1, .int x1), (2, .int x2), (3, .int x3), (4, .int x4), (5, .int x5)]) hx hb dX0_rounds_109 hl (k := 6) rfl (by rw [ex6_8]; rfl) (by decide) rfl (fun ls hl => ?_)
      refine lv_goto (tgt := 92) hx hb dX0_rounds_112 (by decide) ?_
      exact ih _ _ _ _ _ _ _ ls _ _ O (lv_sub hl [1, 2, 3, 4, 5, 6, 0] rfl) hf
def C_X0_rounds_b68 (Δ : DT) (kb44 : ST → Int32 → Int32 → Int32 → Int32 → Int32 → Option (ST)) : Nat → ST → Int32 → Int32 → Int32 → Int32 → Int32 → Int32 → Option (ST)
  | 0, _, _, _, _, _, _, _ => none
  | n + 1, σ, x1, x2, x3, x4, x5, x6 =>
    (if 24 < x6 then C_X0_rounds_b92 Δ kb44 FUEL σ x1 x2 x3 x4 x5 0 else ck ((okC Δ) 12 (gR σ 0 0 0 12) 0) (ck (okI x6 25) (lt1 (sL σ 12 (gR σ 0 0 0 12) 0 (Int32.toNatClampNeg x6) 0) (fun σ_4 => lt1 (x6 + 1) (fun x6_5 => (C_X0_rounds_b68 Δ kb44 n) σ_4 x1 x2 x3 x4 x5 x6_5)))))
theorem w_C_X0_rounds_b68 {Δ : DT} (X : FX p m c meth s args RX0 cX0_rounds 7 none) (K : XK D d A s) {z : ST} {kb44 : ST → Int32 → Int32 → Int32 → Int32 → Int32 → Option (ST)} (hkb44 : ∀ (σ : ST) (x1 : Int32) (x2 : Int32) (x3 : Int32) (x4 : Int32) (x5 : Int32) (ls : Array Slot) (H : Heap) (locs : List Loc), XH D A s.heap (hC hs) (xct (LC Δ) (okC Δ) (hC hs) d σ) H locs → lv_has ls 7 [(0, .ref ((hC hs) 0 0 0)), (1, .int x1), (2, .int x2), (3, .int x3), (4, .int x4), (5, .int x5)] → kb44 σ x1 x2 x3 x4 x5 = some z → W p l e (rmD 2 0 0) s m args below meth c H locs 0 0 (MQ below (Qv D (pu z) (cw (hC hs) (LC Δ) (okC Δ) d) A) args s 0 0 A) (F0 m 44 ls [])) : ∀ (n : Nat) (σ : ST) (x1 : Int32) (x2 : Int32) (x3 : Int32) (x4 : Int32) (x5 : Int32) (x6 : Int32) (ls : Array Slot) (H : Heap) (locs : List Loc), XH D A s.heap (hC hs) (xct (LC Δ) (okC Δ) (hC hs) d σ) H locs → lv_has ls 7 [(0, .ref ((hC hs) 0 0 0)), (1, .int x1), (2, .int x2), (3, .int x3), (4, .int x4), (5, .int x5), (6, .int x6)] → C_X0_rounds_b68 Δ kb44 n σ x1 x2 x3 x4 x5 x6 = some z → W p l e (rmD 2 0 0) s m args below meth c H locs 0 0 (MQ below (Qv D (pu z) (cw (hC hs) (LC Δ) (okC Δ) d) A) args s 0 0 A) (F0 m 68 ls []) := by
  have hx := X.1.1; have hb := X.1.2.1
  intro n
  induction n with
  | zero =>
    intro σ x1 x2 x3 x4 x5 x6 ls H locs O hl hf
    exact absurd hf (fun q => by cases q)
  | succ n ih =>
    intro σ x1 x2 x3 x4 x5 x6 ls H locs O hl hf
    rw [C_X0_rounds_b68] at hf
    refine lv_iload hx hb dX0_rounds_68 (lv_at hl 6 rfl) ?_
    refine lv_bipush (v := 24) hx hb dX0_rounds_70 (by decide) ?_
    refine lv_icmp_gt (tgt := 89) hx hb dX0_rounds_72 (by decide) (fun c_1 => ?_) (fun c_1 => ?_)
    · replace hf := if_t c_1 hf
      refine lv_iconst (v := 0) hx hb dX0_rounds_89 (by decide) ?_
      refine lv_istore (lv' := [(6, .int 0), (0, .ref ((hC hs) 0 0 0)), (1, .int x1), (2, .int x2), (3, .int x3), (4, .int x4), (5, .int x5)]) hx hb dX0_rounds_90 hl (by decide) rfl (fun ls hl => ?_)
      exact w_C_X0_rounds_b92 X K hkb44 _ _ _ _ _ _ _ _ ls _ _ O (lv_sub hl [1, 2, 3, 4, 5, 6, 0] rfl) hf
    · replace hf := if_f c_1 hf
      refine lv_aload_n hx hb dX0_rounds_75 rfl (lv_at hl 0 rfl) ?_
      obtain ⟨c_2, hf⟩ := ck_s hf
      refine x_gR X K O 12 rfl LC_0 rfl rfl in_X0 (by decide) q386 dX0_rounds_76 ?_
      refine lv_iload hx hb dX0_rounds_79 (lv_at hl 6 rfl) ?_
      refine lv_lconst (v := 0) hx hb dX0_rounds_81 (by decide) ?_
      obtain ⟨c_3, hf⟩ := ck_s hf
      obtain ⟨σ_4, eσ_4, hf⟩ := lt1_s hf
      refine x_lst X K O c_2 LC_12 c_3 (j := (Int32.toNatClampNeg x6)) rfl dX0_rounds_82 (fun H locs O => ?_)
      rw [← eσ_4] at O
      obtain ⟨x6_5, ex6_5, hf⟩ := lt1_s hf
      refine lv_iinc (v := x6_5) (lv' := [(6, .int x6_5), (0, .ref ((hC hs) 0 0 0)), (1, .int x1), (2, .int x2), (3, .int x3), (4, .int x4), (5, .int x5)]) hx hb dX0_rounds_83 hl (k := 6) rfl (by rw [ex6_5]; rfl) (by decide) rfl (fun ls hl => ?_)
      refine lv_goto (tgt := 68) hx hb dX0_rounds_86 (by decide) ?_
      exact ih _ _ _ _ _ _ _ ls _ _ O (lv_sub hl [1, 2, 3, 4, 5, 6, 0] rfl) hf
def C_X0_rounds_b44 (Δ : DT) : Nat → ST → Int32 → Int32 → Int32 → Int32 → Int32 → Option (ST)
  | 0, _, _, _, _, _, _ => none
  | n + 1, σ, x1, x2, x3, x4, x5 =>
    (if x3 ≤ x5 then lt1 (sL σ 0 0 0 14 ((gL σ 0 0 0 14) / 1000000)) (fun σ_2 => bn2 (C_J4_floorDiv Δ σ_2 (gL σ_2 0 0 0 15) 1000000) (fun σ_3 r_4 => lt1 (sL σ_3 0 0 0 15 r_4) (fun σ_5 => some σ_5))) else lt1 (sL σ 0 0 0 13 0) (fun σ_6 => lt1 (sL σ_6 0 0 0 14 0) (fun σ_7 => lt1 (sL σ_7 0 0 0 15 0) (fun σ_8 => C_X0_rounds_b68 Δ (C_X0_rounds_b44 Δ n) FUEL σ_8 x1 x2 x3 x4 x5 0))))
theorem w_C_X0_rounds_b44 {Δ : DT} (X : FX p m c meth s args RX0 cX0_rounds 7 none) (K : XK D d A s) {z : ST} : ∀ (n : Nat) (σ : ST) (x1 : Int32) (x2 : Int32) (x3 : Int32) (x4 : Int32) (x5 : Int32) (ls : Array Slot) (H : Heap) (locs : List Loc), XH D A s.heap (hC hs) (xct (LC Δ) (okC Δ) (hC hs) d σ) H locs → lv_has ls 7 [(0, .ref ((hC hs) 0 0 0)), (1, .int x1), (2, .int x2), (3, .int x3), (4, .int x4), (5, .int x5)] → C_X0_rounds_b44 Δ n σ x1 x2 x3 x4 x5 = some z → W p l e (rmD 2 0 0) s m args below meth c H locs 0 0 (MQ below (Qv D (pu z) (cw (hC hs) (LC Δ) (okC Δ) d) A) args s 0 0 A) (F0 m 44 ls []) := by
  have hx := X.1.1; have hb := X.1.2.1
  intro n
  induction n with
  | zero =>
    intro σ x1 x2 x3 x4 x5 ls H locs O hl hf
    exact absurd hf (fun q => by cases q)
  | succ n ih =>
    intro σ x1 x2 x3 x4 x5 ls H locs O hl hf
    rw [C_X0_rounds_b44] at hf
    refine lv_iload hx hb dX0_rounds_44 (lv_at hl 5 rfl) ?_
    refine lv_iload_n hx hb dX0_rounds_46 rfl (lv_at hl 3 rfl) ?_
    refine lv_icmp_ge (tgt := 141) hx hb dX0_rounds_47 (by decide) (fun c_1 => ?_) (fun c_1 => ?_)
    · replace hf := if_t c_1 hf
      refine lv_aload_n hx hb dX0_rounds_141 rfl (lv_at hl 0 rfl) ?_
      refine lv_dup hx hb dX0_rounds_142 rfl ?_
      refine x_gL X K O 14 rfl LC_0 rfl rfl in_X0 (by decide) q388 dX0_rounds_143 ?_
      refine lv_ldc2 (v := 1000000) hx hb X.1.2.2.2.1 (X.1.2.2.2.2 _ q980) dX0_rounds_146 ?_
      refine lv_ldiv hx hb dX0_rounds_149 (by decide) ?_
      obtain ⟨σ_2, eσ_2, hf⟩ := lt1_s hf
      refine x_pL X K O 14 rfl LC_0 rfl rfl in_X0 tyX0_ok nmX0 (by decide) q388 rfl rfl rfl dX0_rounds_150 (fun H locs O => ?_)
      rw [← eσ_2] at O
      refine lv_aload_n hx hb dX0_rounds_153 rfl (lv_at hl 0 rfl) ?_
      refine lv_aload_n hx hb dX0_rounds_154 rfl (lv_at hl 0 rfl) ?_
      refine x_gL X K O 15 rfl LC_0 rfl rfl in_X0 (by decide) q389 dX0_rounds_155 ?_
      refine lv_ldc2 (v := 1000000) hx hb X.1.2.2.2.1 (X.1.2.2.2.2 _ q980) dX0_rounds_158 ?_
      obtain ⟨σ_3, r_4, hg, hf⟩ := bn2_s hf
      refine x_calll (x_runS (As := [.long (gL σ_2 0 0 0 15), .long 1000000]) (rest := [.ref ((hC hs) 0 0 0)]) X K O (m_C_J4_floorDiv hg) EN_b EN_h (lw_S q981 q982 q116 q983) 2 rfl hl.1 (Nat.le_of_ble_eq_true rfl) hdS_J4_floorDiv ⟨by decide, by decide⟩ ⟨Nat.le_refl _, Nat.le_refl _⟩ dX0_rounds_161) (fun r u H locs hp O _ => ?_)
      cases hp
      have O : XH D A s.heap (hC hs) (xct (LC Δ) (okC Δ) (hC hs) d σ_3) H locs := O
      obtain ⟨σ_5, eσ_5, hf⟩ := lt1_s hf
      refine x_pL X K O 15 rfl LC_0 rfl rfl in_X0 tyX0_ok nmX0 (by decide) q389 rfl rfl rfl dX0_rounds_164 (fun H locs O => ?_)
      rw [← eσ_5] at O
      exact x_vret X O rfl _ (Option.some.inj hf).symm rfl dX0_rounds_167
    · replace hf := if_f c_1 hf
      refine lv_aload_n hx hb dX0_rounds_50 rfl (lv_at hl 0 rfl) ?_
      refine lv_lconst (v := 0) hx hb dX0_rounds_51 (by decide) ?_
      obtain ⟨σ_6, eσ_6, hf⟩ := lt1_s hf
      refine x_pL X K O 13 rfl LC_0 rfl rfl in_X0 tyX0_ok nmX0 (by decide) q387 rfl rfl rfl dX0_rounds_52 (fun H locs O => ?_)
      rw [← eσ_6] at O
      refine lv_aload_n hx hb dX0_rounds_55 rfl (lv_at hl 0 rfl) ?_
      refine lv_lconst (v := 0) hx hb dX0_rounds_56 (by decide) ?_
      obtain ⟨σ_7, eσ_7, hf⟩ := lt1_s hf
      refine x_pL X K O 14 rfl LC_0 rfl rfl in_X0 tyX0_ok nmX0 (by decide) q388 rfl rfl rfl dX0_rounds_57 (fun H locs O => ?_)
      rw [← eσ_7] at O
      refine lv_aload_n hx hb dX0_rounds_60 rfl (lv_at hl 0 rfl) ?_
      refine lv_lconst (v := 0) hx hb dX0_rounds_61 (by decide) ?_
      obtain ⟨σ_8, eσ_8, hf⟩ := lt1_s hf
      refine x_pL X K O 15 rfl LC_0 rfl rfl in_X0 tyX0_ok nmX0 (by decide) q389 rfl rfl rfl dX0_rounds_62 (fun H locs O => ?_)
      rw [← eσ_8] at O
      refine lv_iconst (v := 0) hx hb dX0_rounds_65 (by decide) ?_
      refine lv_istore (lv' := [(6, .int 0), (0, .ref ((hC hs) 0 0 0)), (1, .int x1), (2, .int x2), (3, .int x3), (4, .int x4), (5, .int x5)]) hx hb dX0_rounds_66 hl (by decide) rfl (fun ls hl => ?_)
      exact w_C_X0_rounds_b68 X K ih _ _ _ _ _ _ _ _ ls _ _ O (lv_sub hl [1, 2, 3, 4, 5, 6, 0] rfl) hf
def C_X0_rounds_b28 (Δ : DT) (kb3 : ST → Int32 → Int32 → Int32 → Int32 → Option (ST)) (σ : ST) (x1 : Int32) (x2 : Int32) (x3 : Int32) (x4 : Int32) (s0a : Nat) (s1 : Int32) (s2 : Int64) : Option (ST) :=
  ck (okI s1 25) (lt1 (sL σ 12 s0a 0 (Int32.toNatClampNeg s1) s2) (fun σ_2 => lt1 (x4 + 1) (fun x4_3 => kb3 σ_2 x1 x2 x3 x4_3)))
theorem w_C_X0_rounds_b28 {Δ : DT} (X : FX p m c meth s args RX0 cX0_rounds 7 none) (K : XK D d A s) {z : ST} {kb3 : ST → Int32 → Int32 → Int32 → Int32 → Option (ST)} (hkb3 : ∀ (σ : ST) (x1 : Int32) (x2 : Int32) (x3 : Int32) (x4 : Int32) (ls : Array Slot) (H : Heap) (locs : List Loc), XH D A s.heap (hC hs) (xct (LC Δ) (okC Δ) (hC hs) d σ) H locs → lv_has ls 7 [(0, .ref ((hC hs) 0 0 0)), (1, .int x1), (2, .int x2), (3, .int x3), (4, .int x4)] → kb3 σ x1 x2 x3 x4 = some z → W p l e (rmD 2 0 0) s m args below meth c H locs 0 0 (MQ below (Qv D (pu z) (cw (hC hs) (LC Δ) (okC Δ) d) A) args s 0 0 A) (F0 m 3 ls [])) (σ : ST) (x1 : Int32) (x2 : Int32) (x3 : Int32) (x4 : Int32) (s0a : Nat) (s1 : Int32) (s2 : Int64) (ks0 : (okC Δ) 12 s0a 0 = true) (ls : Array Slot) (H : Heap) (locs : List Loc) (O : XH D A s.heap (hC hs) (xct (LC Δ) (okC Δ) (hC hs) d σ) H locs) (hl : lv_has ls 7 [(0, .ref ((hC hs) 0 0 0)), (1, .int x1), (2, .int x2), (3, .int x3), (4, .int x4)]) (hf : C_X0_rounds_b28 Δ kb3 σ x1 x2 x3 x4 s0a s1 s2 = some z) : W p l e (rmD 2 0 0) s m args below meth c H locs 0 0 (MQ below (Qv D (pu z) (cw (hC hs) (LC Δ) (okC Δ) d) A) args s 0 0 A) (F0 m 28 ls [.long s2, .int s1, .ref ((hC hs) 12 s0a 0)]) := by
  have hx := X.1.1; have hb := X.1.2.1
  rw [C_X0_rounds_b28] at hf
  obtain ⟨c_1, hf⟩ := ck_s hf
  obtain ⟨σ_2, eσ_2, hf⟩ := lt1_s hf
  refine x_lst X K O ks0 LC_12 c_1 (j := (Int32.toNatClampNeg s1)) rfl dX0_rounds_28 (fun H locs O => ?_)
  rw [← eσ_2] at O
  obtain ⟨x4_3, ex4_3, hf⟩ := lt1_s hf
  refine lv_iinc (v := x4_3) (lv' := [(4, .int x4_3), (0, .ref ((hC hs) 0 0 0)), (1, .int x1), (2, .int x2), (3, .int x3)]) hx hb dX0_rounds_29 hl (k := 4) rfl (by rw [ex4_3]; rfl) (by decide) rfl (fun ls hl => ?_)
  refine lv_goto (tgt := 3) hx hb dX0_rounds_32 (by decide) ?_
  exact hkb3 _ _ _ _ _ ls _ _ O (lv_sub hl [1, 2, 3, 4, 0] rfl) hf
def C_X0_rounds_b3 (Δ : DT) : Nat → ST → Int32 → Int32 → Int32 → Int32 → Option (ST)
  | 0, _, _, _, _, _ => none
  | n + 1, σ, x1, x2, x3, x4 =>
    (if 24 < x4 then bn2 (C_X0_greatestSize Δ σ) (fun σ_2 r_3 => C_X0_rounds_b44 Δ FUEL σ_2 x1 x2 x3 r_3 0) else ck ((okC Δ) 12 (gR σ 0 0 0 11) 0) ((if x4 = 0 then C_X0_rounds_b28 Δ (C_X0_rounds_b3 Δ n) σ x1 x2 x3 x4 (gR σ 0 0 0 11) x4 1000000000 else C_X0_rounds_b28 Δ (C_X0_rounds_b3 Δ n) σ x1 x2 x3 x4 (gR σ 0 0 0 11) x4 0)))
theorem w_C_X0_rounds_b3 {Δ : DT} (X : FX p m c meth s args RX0 cX0_rounds 7 none) (K : XK D d A s) {z : ST} : ∀ (n : Nat) (σ : ST) (x1 : Int32) (x2 : Int32) (x3 : Int32) (x4 : Int32) (ls : Array Slot) (H : Heap) (locs : List Loc), XH D A s.heap (hC hs) (xct (LC Δ) (okC Δ) (hC hs) d σ) H locs → lv_has ls 7 [(0, .ref ((hC hs) 0 0 0)), (1, .int x1), (2, .int x2), (3, .int x3), (4, .int x4)] → C_X0_rounds_b3 Δ n σ x1 x2 x3 x4 = some z → W p l e (rmD 2 0 0) s m args below meth c H locs 0 0 (MQ below (Qv D (pu z) (cw (hC hs) (LC Δ) (okC Δ) d) A) args s 0 0 A) (F0 m 3 ls []) := by
  have hx := X.1.1; have hb := X.1.2.1
  intro n
  induction n with
  | zero =>
    intro σ x1 x2 x3 x4 ls H locs O hl hf
    exact absurd hf (fun q => by cases q)
  | succ n ih =>
    intro σ x1 x2 x3 x4 ls H locs O hl hf
    rw [C_X0_rounds_b3] at hf
    refine lv_iload hx hb dX0_rounds_3 (lv_at hl 4 rfl) ?_
    refine lv_bipush (v := 24) hx hb dX0_rounds_5 (by decide) ?_
    refine lv_icmp_gt (tgt := 35) hx hb dX0_rounds_7 (by decide) (fun c_1 => ?_) (fun c_1 => ?_)
    · replace hf := if_t c_1 hf
      refine lv_aload_n hx hb dX0_rounds_35 rfl (lv_at hl 0 rfl) ?_
      obtain ⟨σ_2, r_3, hg, hf⟩ := bn2_s hf
      refine x_calli (x_runV (As := []) (rest := []) X K O (xct_obj rfl LC_0) rfl (m_C_X0_greatestSize hg) EN_b EN_h (lw_V q972 q974 qs33 q111 q975) 0 rfl hl.1 (Nat.le_of_ble_eq_true rfl) hdV_X0_greatestSize ⟨by decide, by decide⟩ ⟨Nat.le_refl _, Nat.le_refl _⟩ dX0_rounds_36) (fun r u H locs hp O _ => ?_)
      cases hp
      have O : XH D A s.heap (hC hs) (xct (LC Δ) (okC Δ) (hC hs) d σ_2) H locs := O
      refine lv_istore (lv' := [(4, .int r_3), (0, .ref ((hC hs) 0 0 0)), (1, .int x1), (2, .int x2), (3, .int x3)]) hx hb dX0_rounds_39 hl (by decide) rfl (fun ls hl => ?_)
      refine lv_iconst (v := 0) hx hb dX0_rounds_41 (by decide) ?_
      refine lv_istore (lv' := [(5, .int 0), (4, .int r_3), (0, .ref ((hC hs) 0 0 0)), (1, .int x1), (2, .int x2), (3, .int x3)]) hx hb dX0_rounds_42 hl (by decide) rfl (fun ls hl => ?_)
      exact w_C_X0_rounds_b44 X K _ _ _ _ _ _ _ ls _ _ O (lv_sub hl [2, 3, 4, 5, 1, 0] rfl) hf
    · replace hf := if_f c_1 hf
      refine lv_aload_n hx hb dX0_rounds_10 rfl (lv_at hl 0 rfl) ?_
      obtain ⟨c_4, hf⟩ := ck_s hf
      refine x_gR X K O 11 rfl LC_0 rfl rfl in_X0 (by decide) q385 dX0_rounds_11 ?_
      refine lv_iload hx hb dX0_rounds_14 (lv_at hl 4 rfl) ?_
      refine lv_iload hx hb dX0_rounds_16 (lv_at hl 4 rfl) ?_
      refine lv_if_ne (tgt := 27) hx hb dX0_rounds_18 (by decide) (fun c_5 => ?_) (fun c_5 => ?_)
      · replace hf := if_f c_5 hf
        refine lv_lconst (v := 0) hx hb dX0_rounds_27 (by decide) ?_
        exact w_C_X0_rounds_b28 X K ih _ _ _ _ _ _ _ _ c_4 ls _ _ O (lv_sub hl [0, 1, 2, 3, 4] rfl) hf
      · replace hf := if_t c_5 hf
        refine lv_ldc2 (v := 1000000000) hx hb X.1.2.2.2.1 (X.1.2.2.2.2 _ q971) dX0_rounds_21 ?_
        refine lv_goto (tgt := 28) hx hb dX0_rounds_24 (by decide) ?_
        exact w_C_X0_rounds_b28 X K ih _ _ _ _ _ _ _ _ c_4 ls _ _ O (lv_sub hl [0, 1, 2, 3, 4] rfl) hf
def C_X0_rounds (Δ : DT) (σ : ST) (p1 : Int32) (p2 : Int32) (p3 : Int32) : Option (ST) :=
  C_X0_rounds_b3 Δ FUEL σ p1 p2 p3 0
theorem m_C_X0_rounds {l : Launch} {D : va_G} {d : Nat → ClassId} {hs : IX} {Δ : DT} {p1 : Int32} {p2 : Int32} {p3 : Int32} {σ : ST} {z : ST} (hf : C_X0_rounds Δ σ p1 p2 p3 = some z) : XM l D d EN yX0_rounds cX0_rounds 7 none 2 0 0 [.ref ((hC hs) 0 0 0), .int p1, .int p2, .int p3] (hC hs) (xct (LC Δ) (okC Δ) (hC hs) d σ) (Qv D (pu z) (cw (hC hs) (LC Δ) (okC Δ) d)) := by
  refine XM.of (by decide +kernel) (Nat.le_of_ble_eq_true rfl) ?_
  intro p e s m below meth c A ls X _ K _ O hl
  have hl : lv_has ls 7 [(0, .ref ((hC hs) 0 0 0)), (1, .int p1), (2, .int p2), (3, .int p3)] := hl
  have hx := X.1.1; have hb := X.1.2.1
  rw [C_X0_rounds] at hf
  refine lv_iconst (v := 0) hx hb dX0_rounds_0 (by decide) ?_
  refine lv_istore (lv' := [(4, .int 0), (0, .ref ((hC hs) 0 0 0)), (1, .int p1), (2, .int p2), (3, .int p3)]) hx hb dX0_rounds_1 hl (by decide) rfl (fun ls hl => ?_)
  exact w_C_X0_rounds_b3 X K _ _ _ _ _ _ ls _ _ O (lv_sub hl [1, 2, 3, 4, 0] rfl) hf
theorem hdV_X0_rounds : yX0_rounds.cls = RX0 ∧ (yX0_rounds.cls ≠ "java/lang/invoke/MethodHandle" ∧ yX0_rounds.cls ≠ "java/lang/invoke/VarHandle" ∧ (parseMethodDescriptor yX0_rounds.desc).map (fun d => d.parameters.length) = some 3) := by decide +kernel
def C_X0_longer_b143 (Δ : DT) (kb105 : ST → Int32 → Int32 → Int32 → Int64 → Int32 → Option (ST × Int64)) (σ : ST) (x2 : Int32) (x3 : Int32) (x5 : Int32) (x6 : Int64) (x8 : Int32) : Option (ST × Int64) :=
  lt1 (x8 + 1) (fun x8_1 => kb105 σ x2 x3 x5 x6 x8_1)
theorem w_C_X0_longer_b143 {Δ : DT} (X : FX p m c meth s args RX0 cX0_longer 9 (some .long)) (K : XK D d A s) {z : ST × Int64} {kb105 : ST → Int32 → Int32 → Int32 → Int64 → Int32 → Option (ST × Int64)} (hkb105 : ∀ (σ : ST) (x2 : Int32) (x3 : Int32) (x5 : Int32) (x6 : Int64) (x8 : Int32) (ls : Array Slot) (H : Heap) (locs : List Loc), XH D A s.heap (hC hs) (xct (LC Δ) (okC Δ) (hC hs) d σ) H locs → lv_has ls 9 [(0, .ref ((hC hs) 0 0 0)), (2, .int x2), (3, .int x3), (5, .int x5), (6, .long x6), (8, .int x8)] → kb105 σ x2 x3 x5 x6 x8 = some z → W p l e (rmD 3 0 0) s m args below meth c H locs 0 0 (MQ below (Ql D (pz z) (cw (hC hs) (LC Δ) (okC Δ) d) A) args s 0 0 A) (F0 m 105 ls [])) (σ : ST) (x2 : Int32) (x3 : Int32) (x5 : Int32) (x6 : Int64) (x8 : Int32) (ls : Array Slot) (H : Heap) (locs : List Loc) (O : XH D A s.heap (hC hs) (xct (LC Δ) (okC Δ) (hC hs) d σ) H locs) (hl : lv_has ls 9 [(0, .ref ((hC hs) 0 0 0)), (2, .int x2), (3, .int x3), (5, .int x5), (6, .long x6), (8, .int x8)]) (hf : C_X0_longer_b143 Δ kb105 σ x2 x3 x5 x6 x8 = some z) : W p l e (rmD 3 0 0) s m args below meth c H locs 0 0 (MQ below (Ql D (pz z) (cw (hC hs) (LC Δ) (okC Δ) d) A) args s 0 0 A) (F0 m 143 ls []) := by
  have hx := X.1.1; have hb := X.1.2.1
  rw [C_X0_longer_b143] at hf
  obtain ⟨x8_1, ex8_1, hf⟩ := lt1_s hf
  refine lv_iinc (v := x8_1) (lv' := [(8, .int x8_1), (0, .ref ((hC hs) 0 0 0)), (2, .int x2), (3, .int x3), (5, .int x5), (6, .long x6)]) hx hb dX0_longer_143 hl (k := 5) rfl (by rw [ex8_1]; rfl) (by decide) rfl (fun ls hl => ?_)
  refine lv_goto (tgt := 105) hx hb dX0_longer_146 (by decide) ?_
  exact hkb105 _ _ _ _ _ _ ls _ _ O (lv_sub hl [1, 2, 3, 4, 5, 0] rfl) hf
def C_X0_longer_b105 (Δ : DT) : Nat → ST → Int32 → Int32 → Int32 → Int64 → Int32 → Option (ST × Int64)
  | 0, _, _, _, _, _, _ => none
  | n + 1, σ, x2, x3, x5, x6, x8 =>
    (if 13 < x8 then some (σ, (x5.toInt64)) else bn1 (C_X0_rounds Δ σ x8 x2 x3) (fun σ_2 => (if 0 < (lg_cmp (gL σ_2 0 0 0 14) x6) then lt1 (gL σ_2 0 0 0 14) (fun x6_4 => C_X0_longer_b143 Δ (C_X0_longer_b105 Δ n) σ_2 x2 x3 x8 x6_4 x8) else C_X0_longer_b143 Δ (C_X0_longer_b105 Δ n) σ_2 x2 x3 x5 x6 x8)))
theorem w_C_X0_longer_b105 {Δ : DT} (X : FX p m c meth s args RX0 cX0_longer 9 (some .long)) (K : XK D d A s) {z : ST × Int64} : ∀ (n : Nat) (σ : ST) (x2 : Int32) (x3 : Int32) (x5 : Int32) (x6 : Int64) (x8 : Int32) (ls : Array Slot) (H : Heap) (locs : List Loc), XH D A s.heap (hC hs) (xct (LC Δ) (okC Δ) (hC hs) d σ) H locs → lv_has ls 9 [(0, .ref ((hC hs) 0 0 0)), (2, .int x2), (3, .int x3), (5, .int x5), (6, .long x6), (8, .int x8)] → C_X0_longer_b105 Δ n σ x2 x3 x5 x6 x8 = some z → W p l e (rmD 3 0 0) s m args below meth c H locs 0 0 (MQ below (Ql D (pz z) (cw (hC hs) (LC Δ) (okC Δ) d) A) args s 0 0 A) (F0 m 105 ls []) := by
  have hx := X.1.1; have hb := X.1.2.1
  intro n
  induction n with
  | zero =>
    intro σ x2 x3 x5 x6 x8 ls H locs O hl hf
    exact absurd hf (fun q => by cases q)
  | succ n ih =>
    intro σ x2 x3 x5 x6 x8 ls H locs O hl hf
    rw [C_X0_longer_b105] at hf
    refine lv_iload hx hb dX0_longer_105 (lv_at hl 5 rfl) ?_
    refine lv_bipush (v := 13) hx hb dX0_longer_107 (by decide) ?_
    refine lv_icmp_gt (tgt := 149) hx hb dX0_longer_109 (by decide) (fun c_1 => ?_) (fun c_1 => ?_)
    · replace hf := if_t c_1 hf
      refine lv_iload hx hb dX0_longer_149 (lv_at hl 3 rfl) ?_
      refine lv_i2l (v := (x5.toInt64)) hx hb dX0_longer_151 rfl ?_
      exact x_lret X O rfl _ (Option.some.inj hf).symm rfl dX0_longer_152
    · replace hf := if_f c_1 hf
      refine lv_aload_n hx hb dX0_longer_112 rfl (lv_at hl 0 rfl) ?_
      refine lv_iload hx hb dX0_longer_113 (lv_at hl 5 rfl) ?_
      refine lv_iload_n hx hb dX0_longer_115 rfl (lv_at hl 1 rfl) ?_
      refine lv_iload_n hx hb dX0_longer_116 rfl (lv_at hl 2 rfl) ?_
      obtain ⟨σ_2, hg, hf⟩ := bn1_s hf
      refine x_callv (x_runV (As := [.int x8, .int x2, .int x3]) (rest := []) X K O (xct_obj rfl LC_0) rfl (m_C_X0_rounds hg) EN_b EN_h (lw_V q967 q969 qs32 q111 q970) 3 rfl hl.1 (Nat.le_of_ble_eq_true rfl) hdV_X0_rounds ⟨by decide, by decide⟩ ⟨Nat.le_refl _, Nat.le_refl _⟩ dX0_longer_117) (fun u H locs hp O _ => ?_)
      cases hp
      have O : XH D A s.heap (hC hs) (xct (LC Δ) (okC Δ) (hC hs) d σ_2) H locs := O
      refine lv_aload_n hx hb dX0_longer_120 rfl (lv_at hl 0 rfl) ?_
      refine x_gL X K O 14 rfl LC_0 rfl rfl in_X0 (by decide) q388 dX0_longer_121 ?_
      refine lv_lload hx hb dX0_longer_124 (lv_at hl 4 rfl) ?_
      refine W.lcmp hx hb dX0_longer_126 ?_
      refine lv_if_gt (tgt := 133) hx hb dX0_longer_127 (by decide) (fun c_3 => ?_) (fun c_3 => ?_)
      · replace hf := if_t c_3 hf
        refine lv_iload hx hb dX0_longer_133 (lv_at hl 5 rfl) ?_
        refine lv_istore (lv' := [(5, .int x8), (0, .ref ((hC hs) 0 0 0)), (2, .int x2), (3, .int x3), (6, .long x6), (8, .int x8)]) hx hb dX0_longer_135 hl (by decide) rfl (fun ls hl => ?_)
        refine lv_aload_n hx hb dX0_longer_137 rfl (lv_at hl 1 rfl) ?_
        refine x_gL X K O 14 rfl LC_0 rfl rfl in_X0 (by decide) q388 dX0_longer_138 ?_
        obtain ⟨x6_4, ex6_4, hf⟩ := lt1_s hf
        refine x_top (w := .long x6_4) (by rw [ex6_4]) ?_
        refine lv_lstore (lv' := [(6, .long x6_4), (5, .int x8), (0, .ref ((hC hs) 0 0 0)), (2, .int x2), (3, .int x3), (8, .int x8)]) hx hb dX0_longer_141 hl (by decide) rfl (fun ls hl => ?_)
        exact w_C_X0_longer_b143 X K ih _ _ _ _ _ _ ls _ _ O (lv_sub hl [2, 3, 4, 1, 0, 5] rfl) hf
      · replace hf := if_f c_3 hf
        refine lv_goto (tgt := 143) hx hb dX0_longer_130 (by decide) ?_
        exact w_C_X0_longer_b143 X K ih _ _ _ _ _ _ ls _ _ O (lv_sub hl [0, 1, 2, 3, 4, 5] rfl) hf
def C_X0_longer_b65 (Δ : DT) (σ : ST) (x1 : Int32) (x2 : Int32) (x3 : Int32) (x4 : Int32) : Option (ST × Int64) :=
  (if x1 = (-1) then C_X0_longer_b105 Δ FUEL σ x2 x3 1 (-1) 1 else bn1 (C_X0_rounds Δ σ x1 x2 x3) (fun σ_2 => (if x4 = 0 then some (σ_2, (gL σ_2 0 0 0 13)) else some (σ_2, (gL σ_2 0 0 0 14)))))
theorem w_C_X0_longer_b65 {Δ : DT} (X : FX p m c meth s args RX0 cX0_longer 9 (some .long)) (K : XK D d A s) {z : ST × Int64} (σ : ST) (x1 : Int32) (x2 : Int32) (x3 : Int32) (x4 : Int32) (ls : Array Slot) (H : Heap) (locs : List Loc) (O : XH D A s.heap (hC hs) (xct (LC Δ) (okC Δ) (hC hs) d σ) H locs) (hl : lv_has ls 9 [(0, .ref ((hC hs) 0 0 0)), (1, .int x1), (2, .int x2), (3, .int x3), (4, .int x4)]) (hf : C_X0_longer_b65 Δ σ x1 x2 x3 x4 = some z) : W p l e (rmD 3 0 0) s m args below meth c H locs 0 0 (MQ below (Ql D (pz z) (cw (hC hs) (LC Δ) (okC Δ) d) A) args s 0 0 A) (F0 m 65 ls []) := by
  have hx := X.1.1; have hb := X.1.2.1
  rw [C_X0_longer_b65] at hf
  refine lv_iload_n hx hb dX0_longer_65 rfl (lv_at hl 1 rfl) ?_
  refine lv_iconst (v := (-1)) hx hb dX0_longer_66 (by decide) ?_
  refine lv_icmp_eq (tgt := 94) hx hb dX0_longer_67 (by decide) (fun c_1 => ?_) (fun c_1 => ?_)
  · replace hf := if_t c_1 hf
    refine lv_iconst (v := 1) hx hb dX0_longer_94 (by decide) ?_
    refine lv_istore (lv' := [(5, .int 1), (0, .ref ((hC hs) 0 0 0)), (1, .int x1), (2, .int x2), (3, .int x3), (4, .int x4)]) hx hb dX0_longer_95 hl (by decide) rfl (fun ls hl => ?_)
    refine lv_ldc2 (v := (-1)) hx hb X.1.2.2.2.1 (X.1.2.2.2.2 _ q959) dX0_longer_97 ?_
    refine lv_lstore (lv' := [(6, .long (-1)), (5, .int 1), (0, .ref ((hC hs) 0 0 0)), (1, .int x1), (2, .int x2), (3, .int x3), (4, .int x4)]) hx hb dX0_longer_100 hl (by decide) rfl (fun ls hl => ?_)
    refine lv_iconst (v := 1) hx hb dX0_longer_102 (by decide) ?_
    refine lv_istore (lv' := [(8, .int 1), (6, .long (-1)), (5, .int 1), (0, .ref ((hC hs) 0 0 0)), (1, .int x1), (2, .int x2), (3, .int x3), (4, .int x4)]) hx hb dX0_longer_103 hl (by decide) rfl (fun ls hl => ?_)
    exact w_C_X0_longer_b105 X K _ _ _ _ _ _ _ ls _ _ O (lv_sub hl [3, 5, 6, 2, 1, 0] rfl) hf
  · replace hf := if_f c_1 hf
    refine lv_aload_n hx hb dX0_longer_70 rfl (lv_at hl 0 rfl) ?_
    refine lv_iload_n hx hb dX0_longer_71 rfl (lv_at hl 1 rfl) ?_
    refine lv_iload_n hx hb dX0_longer_72 rfl (lv_at hl 2 rfl) ?_
    refine lv_iload_n hx hb dX0_longer_73 rfl (lv_at hl 3 rfl) ?_
    obtain ⟨σ_2, hg, hf⟩ := bn1_s hf
    refine x_callv (x_runV (As := [.int x1, .int x2, .int x3]) (rest := []) X K O (xct_obj rfl LC_0) rfl (m_C_X0_rounds hg) EN_b EN_h (lw_V q967 q969 qs32 q111 q970) 3 rfl hl.1 (Nat.le_of_ble_eq_true rfl) hdV_X0_rounds ⟨by decide, by decide⟩ ⟨Nat.le_refl _, Nat.le_refl _⟩ dX0_longer_74) (fun u H locs hp O _ => ?_)
    cases hp
    have O : XH D A s.heap (hC hs) (xct (LC Δ) (okC Δ) (hC hs) d σ_2) H locs := O
    refine lv_iload hx hb dX0_longer_77 (lv_at hl 4 rfl) ?_
    refine lv_if_ne (tgt := 89) hx hb dX0_longer_79 (by decide) (fun c_3 => ?_) (fun c_3 => ?_)
    · replace hf := if_f c_3 hf
      refine lv_aload_n hx hb dX0_longer_89 rfl (lv_at hl 0 rfl) ?_
      refine x_gL X K O 14 rfl LC_0 rfl rfl in_X0 (by decide) q388 dX0_longer_90 ?_
      exact x_lret X O rfl _ (Option.some.inj hf).symm rfl dX0_longer_93
    · replace hf := if_t c_3 hf
      refine lv_aload_n hx hb dX0_longer_82 rfl (lv_at hl 0 rfl) ?_
      refine x_gL X K O 13 rfl LC_0 rfl rfl in_X0 (by decide) q387 dX0_longer_83 ?_
      refine lv_goto (tgt := 93) hx hb dX0_longer_86 (by decide) ?_
      exact x_lret X O rfl _ (Option.some.inj hf).symm rfl dX0_longer_93
def C_X0_longer_b15 (Δ : DT) (σ : ST) (x1 : Int32) (x2 : Int32) (x3 : Int32) (x4 : Int32) : Option (ST × Int64) :=
  bn2 (C_X0_isIn Δ σ x2 1 9) (fun σ_1 r_2 => (if r_2 = 0 then some (σ_1, (-1)) else bn2 (C_X0_isIn Δ σ_1 x3 1 200) (fun σ_4 r_5 => (if r_5 = 0 then some (σ_4, (-1)) else bn2 (C_X1_weights Δ 0 σ_4) (fun σ_7 r_8 => (if r_8 = 0 then some (σ_7, (-1)) else (if x1 = (-1) then C_X0_longer_b65 Δ σ_7 x1 x2 x3 x4 else bn2 (C_X0_isIn Δ σ_7 x4 0 1) (fun σ_11 r_12 => (if r_12 = 0 then some (σ_11, (-1)) else C_X0_longer_b65 Δ σ_11 x1 x2 x3 x4)))))))))
theorem w_C_X0_longer_b15 {Δ : DT} (X : FX p m c meth s args RX0 cX0_longer 9 (some .long)) (K : XK D d A s) {z : ST × Int64} (σ : ST) (x1 : Int32) (x2 : Int32) (x3 : Int32) (x4 : Int32) (ls : Array Slot) (H : Heap) (locs : List Loc) (O : XH D A s.heap (hC hs) (xct (LC Δ) (okC Δ) (hC hs) d σ) H locs) (hl : lv_has ls 9 [(0, .ref ((hC hs) 0 0 0)), (1, .int x1), (2, .int x2), (3, .int x3), (4, .int x4)]) (hf : C_X0_longer_b15 Δ σ x1 x2 x3 x4 = some z) : W p l e (rmD 3 0 0) s m args below meth c H locs 0 0 (MQ below (Ql D (pz z) (cw (hC hs) (LC Δ) (okC Δ) d) A) args s 0 0 A) (F0 m 15 ls []) := by
  have hx := X.1.1; have hb := X.1.2.1
  rw [C_X0_longer_b15] at hf
  refine lv_iload_n hx hb dX0_longer_15 rfl (lv_at hl 2 rfl) ?_
  refine lv_iconst (v := 1) hx hb dX0_longer_16 (by decide) ?_
  refine lv_bipush (v := 9) hx hb dX0_longer_17 (by decide) ?_
  obtain ⟨σ_1, r_2, hg, hf⟩ := bn2_s hf
  refine x_calli (x_runS (As := [.int x2, .int 1, .int 9]) (rest := []) X K O (m_C_X0_isIn hg) EN_b EN_h (lw_S q444 q445 q111 q446) 3 rfl hl.1 (Nat.le_of_ble_eq_true rfl) hdS_X0_isIn ⟨by decide, by decide⟩ ⟨Nat.le_refl _, Nat.le_refl _⟩ dX0_longer_19) (fun r u H locs hp O _ => ?_)
  cases hp
  have O : XH D A s.heap (hC hs) (xct (LC Δ) (okC Δ) (hC hs) d σ_1) H locs := O
  refine lv_if_eq (tgt := 61) hx hb dX0_longer_22 (by decide) (fun c_3 => ?_) (fun c_3 => ?_)
  · replace hf := if_t c_3 hf
    refine lv_ldc2 (v := (-1)) hx hb X.1.2.2.2.1 (X.1.2.2.2.2 _ q959) dX0_longer_61 ?_
    exact x_lret X O rfl _ (Option.some.inj hf).symm rfl dX0_longer_64
  · replace hf := if_f c_3 hf
    refine lv_iload_n hx hb dX0_longer_25 rfl (lv_at hl 3 rfl) ?_
    refine lv_iconst (v := 1) hx hb dX0_longer_26 (by decide) ?_
    refine lv_sipush (v := 200) hx hb dX0_longer_27 (by decide) ?_
    obtain ⟨σ_4, r_5, hg, hf⟩ := bn2_s hf
    refine x_calli (x_runS (As := [.int x3, .int 1, .int 200]) (rest := []) X K O (m_C_X0_isIn hg) EN_b EN_h (lw_S q444 q445 q111 q446) 3 rfl hl.1 (Nat.le_of_ble_eq_true rfl) hdS_X0_isIn ⟨by decide, by decide⟩ ⟨Nat.le_refl _, Nat.le_refl _⟩ dX0_longer_30) (fun r u H locs hp O _ => ?_)
    cases hp
    have O : XH D A s.heap (hC hs) (xct (LC Δ) (okC Δ) (hC hs) d σ_4) H locs := O
    refine lv_if_eq (tgt := 61) hx hb dX0_longer_33 (by decide) (fun c_6 => ?_) (fun c_6 => ?_)
    · replace hf := if_t c_6 hf
      refine lv_ldc2 (v := (-1)) hx hb X.1.2.2.2.1 (X.1.2.2.2.2 _ q959) dX0_longer_61 ?_
      exact x_lret X O rfl _ (Option.some.inj hf).symm rfl dX0_longer_64
    · replace hf := if_f c_6 hf
      refine lv_aload_n hx hb dX0_longer_36 rfl (lv_at hl 0 rfl) ?_
      refine x_gF X K O 6 rfl LC_0 rfl rfl in_X0 (by decide) q379 dX0_longer_37 ?_
      obtain ⟨σ_7, r_8, hg, hf⟩ := bn2_s hf
      refine x_calli (x_runV (As := []) (rest := []) X K O (xct_obj rfl LC_1) rfl (m_C_X1_weights rfl hg) EN_b EN_h (lw_V q943 q925 q926 q119 q927) 0 rfl hl.1 (Nat.le_of_ble_eq_true rfl) hdV_X1_weights ⟨by decide, by decide⟩ ⟨Nat.le_refl _, Nat.le_refl _⟩ dX0_longer_40) (fun r u H locs hp O _ => ?_)
      cases hp
      have O : XH D A s.heap (hC hs) (xct (LC Δ) (okC Δ) (hC hs) d σ_7) H locs := O
      refine lv_if_eq (tgt := 61) hx hb dX0_longer_43 (by decide) (fun c_9 => ?_) (fun c_9 => ?_)
      · replace hf := if_t c_9 hf
        refine lv_ldc2 (v := (-1)) hx hb X.1.2.2.2.1 (X.1.2.2.2.2 _ q959) dX0_longer_61 ?_
        exact x_lret X O rfl _ (Option.some.inj hf).symm rfl dX0_longer_64
      · replace hf := if_f c_9 hf
        refine lv_iload_n hx hb dX0_longer_46 rfl (lv_at hl 1 rfl) ?_
        refine lv_iconst (v := (-1)) hx hb dX0_longer_47 (by decide) ?_
        refine lv_icmp_eq (tgt := 65) hx hb dX0_longer_48 (by decide) (fun c_10 => ?_) (fun c_10 => ?_)
        · replace hf := if_t c_10 hf
          exact w_C_X0_longer_b65 X K _ _ _ _ _ ls _ _ O (lv_sub hl [0, 1, 2, 3, 4] rfl) hf
        · replace hf := if_f c_10 hf
          refine lv_iload hx hb dX0_longer_51 (lv_at hl 4 rfl) ?_
          refine lv_iconst (v := 0) hx hb dX0_longer_53 (by decide) ?_
          refine lv_iconst (v := 1) hx hb dX0_longer_54 (by decide) ?_
          obtain ⟨σ_11, r_12, hg, hf⟩ := bn2_s hf
          refine x_calli (x_runS (As := [.int x4, .int 0, .int 1]) (rest := []) X K O (m_C_X0_isIn hg) EN_b EN_h (lw_S q444 q445 q111 q446) 3 rfl hl.1 (Nat.le_of_ble_eq_true rfl) hdS_X0_isIn ⟨by decide, by decide⟩ ⟨Nat.le_refl _, Nat.le_refl _⟩ dX0_longer_55) (fun r u H locs hp O _ => ?_)
          cases hp
          have O : XH D A s.heap (hC hs) (xct (LC Δ) (okC Δ) (hC hs) d σ_11) H locs := O
          refine lv_if_ne (tgt := 65) hx hb dX0_longer_58 (by decide) (fun c_13 => ?_) (fun c_13 => ?_)
          · replace hf := if_f c_13 hf
            exact w_C_X0_longer_b65 X K _ _ _ _ _ ls _ _ O (lv_sub hl [0, 1, 2, 3, 4] rfl) hf
          · replace hf := if_t c_13 hf
            refine lv_ldc2 (v := (-1)) hx hb X.1.2.2.2.1 (X.1.2.2.2.2 _ q959) dX0_longer_61 ?_
            exact x_lret X O rfl _ (Option.some.inj hf).symm rfl dX0_longer_64
def C_X0_longer (Δ : DT) (σ : ST) (p1 : Int32) (p2 : Int32) (p3 : Int32) (p4 : Int32) : Option (ST × Int64) :=
  (if p1 = (-1) then C_X0_longer_b15 Δ σ p1 p2 p3 p4 else bn2 (C_X0_isIn Δ σ p1 1 13) (fun σ_2 r_3 => (if r_3 = 0 then some (σ_2, (-1)) else C_X0_longer_b15 Δ σ_2 p1 p2 p3 p4)))
theorem m_C_X0_longer {l : Launch} {D : va_G} {d : Nat → ClassId} {hs : IX} {Δ : DT} {p1 : Int32} {p2 : Int32} {p3 : Int32} {p4 : Int32} {σ : ST} {z : ST × Int64} (hf : C_X0_longer Δ σ p1 p2 p3 p4 = some z) : XM l D d EN yX0_longer cX0_longer 9 (some .long) 3 0 0 [.ref ((hC hs) 0 0 0), .int p1, .int p2, .int p3, .int p4] (hC hs) (xct (LC Δ) (okC Δ) (hC hs) d σ) (Ql D (pz z) (cw (hC hs) (LC Δ) (okC Δ) d)) := by
  refine XM.of (by decide +kernel) (Nat.le_of_ble_eq_true rfl) ?_
  intro p e s m below meth c A ls X _ K _ O hl
  have hl : lv_has ls 9 [(0, .ref ((hC hs) 0 0 0)), (1, .int p1), (2, .int p2), (3, .int p3), (4, .int p4)] := hl
  have hx := X.1.1; have hb := X.1.2.1
  rw [C_X0_longer] at hf
  refine lv_iload_n hx hb dX0_longer_0 rfl (lv_at hl 1 rfl) ?_
  refine lv_iconst (v := (-1)) hx hb dX0_longer_1 (by decide) ?_
  refine lv_icmp_eq (tgt := 15) hx hb dX0_longer_2 (by decide) (fun c_1 => ?_) (fun c_1 => ?_)
  · replace hf := if_t c_1 hf
    exact w_C_X0_longer_b15 X K _ _ _ _ _ ls _ _ O (lv_sub hl [0, 1, 2, 3, 4] rfl) hf
  · replace hf := if_f c_1 hf
    refine lv_iload_n hx hb dX0_longer_5 rfl (lv_at hl 1 rfl) ?_
    refine lv_iconst (v := 1) hx hb dX0_longer_6 (by decide) ?_
    refine lv_bipush (v := 13) hx hb dX0_longer_7 (by decide) ?_
    obtain ⟨σ_2, r_3, hg, hf⟩ := bn2_s hf
    refine x_calli (x_runS (As := [.int p1, .int 1, .int 13]) (rest := []) X K O (m_C_X0_isIn hg) EN_b EN_h (lw_S q444 q445 q111 q446) 3 rfl hl.1 (Nat.le_of_ble_eq_true rfl) hdS_X0_isIn ⟨by decide, by decide⟩ ⟨Nat.le_refl _, Nat.le_refl _⟩ dX0_longer_9) (fun r u H locs hp O _ => ?_)
    cases hp
    have O : XH D A s.heap (hC hs) (xct (LC Δ) (okC Δ) (hC hs) d σ_2) H locs := O
    refine lv_if_eq (tgt := 61) hx hb dX0_longer_12 (by decide) (fun c_4 => ?_) (fun c_4 => ?_)
    · replace hf := if_t c_4 hf
      refine lv_ldc2 (v := (-1)) hx hb X.1.2.2.2.1 (X.1.2.2.2.2 _ q959) dX0_longer_61 ?_
      exact x_lret X O rfl _ (Option.some.inj hf).symm rfl dX0_longer_64
    · replace hf := if_f c_4 hf
      exact w_C_X0_longer_b15 X K _ _ _ _ _ ls _ _ O (lv_sub hl [0, 1, 2, 3, 4] rfl) hf
end CW
