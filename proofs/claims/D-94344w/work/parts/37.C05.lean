section CW
variable {p : Program} {l : Launch} {e : Env} {s : State} {m : MethodId} {args : Array Value} {below : List Frame} {meth : Method} {c : Code} {D : va_G} {A : Nat → Prop} {hs : IX} {d : Nat → ClassId} {Δ : DT}

def C_X0_common_b120 (Δ : DT) (kb76 : ST → Int32 → Int32 → Int32 → Int64 → Int32 → Option (ST × Int64)) (σ : ST) (x1 : Int32) (x3 : Int32) (x4 : Int32) (x5 : Int64) (x7 : Int32) : Option (ST × Int64) :=
  lt1 (x7 + 1) (fun x7_1 => kb76 σ x1 x3 x4 x5 x7_1)
theorem w_C_X0_common_b120 {Δ : DT} (X : FX p m c meth s args RX0 cX0_common 8 (some .long)) (K : XK D d A s) {z : ST × Int64} {kb76 : ST → Int32 → Int32 → Int32 → Int64 → Int32 → Option (ST × Int64)} (hkb76 : ∀ (σ : ST) (x1 : Int32) (x3 : Int32) (x4 : Int32) (x5 : Int64) (x7 : Int32) (ls : Array Slot) (H : Heap) (locs : List Loc), XH D A s.heap (hC hs) (xct (LC Δ) (okC Δ) (hC hs) d σ) H locs → lv_has ls 8 [(0, .ref ((hC hs) 0 0 0)), (1, .int x1), (3, .int x3), (4, .int x4), (5, .long x5), (7, .int x7)] → kb76 σ x1 x3 x4 x5 x7 = some z → W p l e (rmD 3 0 0) s m args below meth c H locs 0 0 (MQ below (Ql D (pz z) (cw (hC hs) (LC Δ) (okC Δ) d) A) args s 0 0 A) (F0 m 76 ls [])) (σ : ST) (x1 : Int32) (x3 : Int32) (x4 : Int32) (x5 : Int64) (x7 : Int32) (ls : Array Slot) (H : Heap) (locs : List Loc) (O : XH D A s.heap (hC hs) (xct (LC Δ) (okC Δ) (hC hs) d σ) H locs) (hl : lv_has ls 8 [(0, .ref ((hC hs) 0 0 0)), (1, .int x1), (3, .int x3), (4, .int x4), (5, .long x5), (7, .int x7)]) (hf : C_X0_common_b120 Δ kb76 σ x1 x3 x4 x5 x7 = some z) : W p l e (rmD 3 0 0) s m args below meth c H locs 0 0 (MQ below (Ql D (pz z) (cw (hC hs) (LC Δ) (okC Δ) d) A) args s 0 0 A) (F0 m 120 ls []) := by
  have hx := X.1.1; have hb := X.1.2.1
  rw [C_X0_common_b120] at hf
  obtain ⟨x7_1, ex7_1, hf⟩ := lt1_s hf
  refine lv_iinc (v := x7_1) (lv' := [(7, .int x7_1), (0, .ref ((hC hs) 0 0 0)), (1, .int x1), (3, .int x3), (4, .int x4), (5, .long x5)]) hx hb dX0_common_120 hl (k := 5) rfl (by rw [ex7_1]; rfl) (by decide) rfl (fun ls hl => ?_)
  refine lv_goto (tgt := 76) hx hb dX0_common_123 (by decide) ?_
  exact hkb76 _ _ _ _ _ _ ls _ _ O (lv_sub hl [1, 2, 3, 4, 5, 0] rfl) hf
def C_X0_common_b110 (Δ : DT) (kb76 : ST → Int32 → Int32 → Int32 → Int64 → Int32 → Option (ST × Int64)) (σ : ST) (x1 : Int32) (x3 : Int32) (x7 : Int32) : Option (ST × Int64) :=
  lt1 (gL σ 0 0 0 15) (fun x5_1 => C_X0_common_b120 Δ kb76 σ x1 x3 x7 x5_1 x7)
theorem w_C_X0_common_b110 {Δ : DT} (X : FX p m c meth s args RX0 cX0_common 8 (some .long)) (K : XK D d A s) {z : ST × Int64} {kb76 : ST → Int32 → Int32 → Int32 → Int64 → Int32 → Option (ST × Int64)} (hkb76 : ∀ (σ : ST) (x1 : Int32) (x3 : Int32) (x4 : Int32) (x5 : Int64) (x7 : Int32) (ls : Array Slot) (H : Heap) (locs : List Loc), XH D A s.heap (hC hs) (xct (LC Δ) (okC Δ) (hC hs) d σ) H locs → lv_has ls 8 [(0, .ref ((hC hs) 0 0 0)), (1, .int x1), (3, .int x3), (4, .int x4), (5, .long x5), (7, .int x7)] → kb76 σ x1 x3 x4 x5 x7 = some z → W p l e (rmD 3 0 0) s m args below meth c H locs 0 0 (MQ below (Ql D (pz z) (cw (hC hs) (LC Δ) (okC Δ) d) A) args s 0 0 A) (F0 m 76 ls [])) (σ : ST) (x1 : Int32) (x3 : Int32) (x7 : Int32) (ls : Array Slot) (H : Heap) (locs : List Loc) (O : XH D A s.heap (hC hs) (xct (LC Δ) (okC Δ) (hC hs) d σ) H locs) (hl : lv_has ls 8 [(0, .ref ((hC hs) 0 0 0)), (1, .int x1), (3, .int x3), (7, .int x7)]) (hf : C_X0_common_b110 Δ kb76 σ x1 x3 x7 = some z) : W p l e (rmD 3 0 0) s m args below meth c H locs 0 0 (MQ below (Ql D (pz z) (cw (hC hs) (LC Δ) (okC Δ) d) A) args s 0 0 A) (F0 m 110 ls []) := by
  have hx := X.1.1; have hb := X.1.2.1
  rw [C_X0_common_b110] at hf
  refine lv_iload hx hb dX0_common_110 (lv_at hl 3 rfl) ?_
  refine lv_istore (lv' := [(4, .int x7), (0, .ref ((hC hs) 0 0 0)), (1, .int x1), (3, .int x3), (7, .int x7)]) hx hb dX0_common_112 hl (by decide) rfl (fun ls hl => ?_)
  refine lv_aload_n hx hb dX0_common_114 rfl (lv_at hl 1 rfl) ?_
  refine x_gL X K O 15 rfl LC_0 rfl rfl in_X0 (by decide) q389 dX0_common_115 ?_
  obtain ⟨x5_1, ex5_1, hf⟩ := lt1_s hf
  refine x_top (w := .long x5_1) (by rw [ex5_1]) ?_
  refine lv_lstore (lv' := [(5, .long x5_1), (4, .int x7), (0, .ref ((hC hs) 0 0 0)), (1, .int x1), (3, .int x3), (7, .int x7)]) hx hb dX0_common_118 hl (by decide) rfl (fun ls hl => ?_)
  exact w_C_X0_common_b120 X K hkb76 _ _ _ _ _ _ ls _ _ O (lv_sub hl [2, 3, 4, 1, 0, 5] rfl) hf
def C_X0_common_b76 (Δ : DT) : Nat → ST → Int32 → Int32 → Int32 → Int64 → Int32 → Option (ST × Int64)
  | 0, _, _, _, _, _, _ => none
  | n + 1, σ, x1, x3, x4, x5, x7 =>
    (if 10 ≤ x7 then some (σ, (x4.toInt64)) else bn1 (C_X0_rounds Δ σ x1 x7 x3) (fun σ_2 => (if x4 = (-1) then C_X0_common_b110 Δ (C_X0_common_b76 Δ n) σ_2 x1 x3 x7 else (if 0 < (lg_cmp (gL σ_2 0 0 0 15) x5) then C_X0_common_b110 Δ (C_X0_common_b76 Δ n) σ_2 x1 x3 x7 else C_X0_common_b120 Δ (C_X0_common_b76 Δ n) σ_2 x1 x3 x4 x5 x7))))
theorem w_C_X0_common_b76 {Δ : DT} (X : FX p m c meth s args RX0 cX0_common 8 (some .long)) (K : XK D d A s) {z : ST × Int64} : ∀ (n : Nat) (σ : ST) (x1 : Int32) (x3 : Int32) (x4 : Int32) (x5 : Int64) (x7 : Int32) (ls : Array Slot) (H : Heap) (locs : List Loc), XH D A s.heap (hC hs) (xct (LC Δ) (okC Δ) (hC hs) d σ) H locs → lv_has ls 8 [(0, .ref ((hC hs) 0 0 0)), (1, .int x1), (3, .int x3), (4, .int x4), (5, .long x5), (7, .int x7)] → C_X0_common_b76 Δ n σ x1 x3 x4 x5 x7 = some z → W p l e (rmD 3 0 0) s m args below meth c H locs 0 0 (MQ below (Ql D (pz z) (cw (hC hs) (LC Δ) (okC Δ) d) A) args s 0 0 A) (F0 m 76 ls []) := by
  have hx := X.1.1; have hb := X.1.2.1
  intro n
  induction n with
  | zero =>
    intro σ x1 x3 x4 x5 x7 ls H locs O hl hf
    exact absurd hf (fun q => by cases q)
  | succ n ih =>
    intro σ x1 x3 x4 x5 x7 ls H locs O hl hf
    rw [C_X0_common_b76] at hf
    refine lv_iload hx hb dX0_common_76 (lv_at hl 5 rfl) ?_
    refine lv_bipush (v := 10) hx hb dX0_common_78 (by decide) ?_
    refine lv_icmp_ge (tgt := 126) hx hb dX0_common_80 (by decide) (fun c_1 => ?_) (fun c_1 => ?_)
    · replace hf := if_t c_1 hf
      refine lv_iload hx hb dX0_common_126 (lv_at hl 3 rfl) ?_
      refine lv_i2l (v := (x4.toInt64)) hx hb dX0_common_128 rfl ?_
      exact x_lret X O rfl _ (Option.some.inj hf).symm rfl dX0_common_129
    · replace hf := if_f c_1 hf
      refine lv_aload_n hx hb dX0_common_83 rfl (lv_at hl 0 rfl) ?_
      refine lv_iload_n hx hb dX0_common_84 rfl (lv_at hl 1 rfl) ?_
      refine lv_iload hx hb dX0_common_85 (lv_at hl 5 rfl) ?_
      refine lv_iload_n hx hb dX0_common_87 rfl (lv_at hl 2 rfl) ?_
      obtain ⟨σ_2, hg, hf⟩ := bn1_s hf
      refine x_callv (x_runV (As := [.int x1, .int x7, .int x3]) (rest := []) X K O (xct_obj rfl LC_0) rfl (m_C_X0_rounds hg) EN_b EN_h (lw_V q967 q969 qs32 q111 q970) 3 rfl hl.1 (Nat.le_of_ble_eq_true rfl) hdV_X0_rounds ⟨by decide, by decide⟩ ⟨Nat.le_refl _, Nat.le_refl _⟩ dX0_common_88) (fun u H locs hp O _ => ?_)
      cases hp
      have O : XH D A s.heap (hC hs) (xct (LC Δ) (okC Δ) (hC hs) d σ_2) H locs := O
      refine lv_iload hx hb dX0_common_91 (lv_at hl 3 rfl) ?_
      refine lv_iconst (v := (-1)) hx hb dX0_common_93 (by decide) ?_
      refine lv_icmp_eq (tgt := 110) hx hb dX0_common_94 (by decide) (fun c_3 => ?_) (fun c_3 => ?_)
      · replace hf := if_t c_3 hf
        exact w_C_X0_common_b110 X K ih _ _ _ _ ls _ _ O (lv_sub hl [0, 1, 2, 5] rfl) hf
      · replace hf := if_f c_3 hf
        refine lv_aload_n hx hb dX0_common_97 rfl (lv_at hl 0 rfl) ?_
        refine x_gL X K O 15 rfl LC_0 rfl rfl in_X0 (by decide) q389 dX0_common_98 ?_
        refine lv_lload hx hb dX0_common_101 (lv_at hl 4 rfl) ?_
        refine W.lcmp hx hb dX0_common_103 ?_
        refine lv_if_gt (tgt := 110) hx hb dX0_common_104 (by decide) (fun c_4 => ?_) (fun c_4 => ?_)
        · replace hf := if_t c_4 hf
          exact w_C_X0_common_b110 X K ih _ _ _ _ ls _ _ O (lv_sub hl [0, 1, 2, 5] rfl) hf
        · replace hf := if_f c_4 hf
          refine lv_goto (tgt := 120) hx hb dX0_common_107 (by decide) ?_
          exact w_C_X0_common_b120 X K ih _ _ _ _ _ _ ls _ _ O (lv_sub hl [0, 1, 2, 3, 4, 5] rfl) hf
def C_X0_common_b25 (Δ : DT) (σ : ST) (x1 : Int32) (x2 : Int32) (x3 : Int32) : Option (ST × Int64) :=
  bn2 (C_X0_isIn Δ σ x3 1 200) (fun σ_1 r_2 => (if r_2 = 0 then some (σ_1, (-1000000000)) else bn2 (C_X1_weights Δ 0 σ_1) (fun σ_4 r_5 => (if r_5 = 0 then some (σ_4, (-1000000000)) else (if x2 = (-1) then C_X0_common_b76 Δ FUEL σ_4 x1 x3 (-1) 0 1 else bn1 (C_X0_rounds Δ σ_4 x1 x2 x3) (fun σ_8 => some (σ_8, (gL σ_8 0 0 0 15))))))))
theorem w_C_X0_common_b25 {Δ : DT} (X : FX p m c meth s args RX0 cX0_common 8 (some .long)) (K : XK D d A s) {z : ST × Int64} (σ : ST) (x1 : Int32) (x2 : Int32) (x3 : Int32) (ls : Array Slot) (H : Heap) (locs : List Loc) (O : XH D A s.heap (hC hs) (xct (LC Δ) (okC Δ) (hC hs) d σ) H locs) (hl : lv_has ls 8 [(0, .ref ((hC hs) 0 0 0)), (1, .int x1), (2, .int x2), (3, .int x3)]) (hf : C_X0_common_b25 Δ σ x1 x2 x3 = some z) : W p l e (rmD 3 0 0) s m args below meth c H locs 0 0 (MQ below (Ql D (pz z) (cw (hC hs) (LC Δ) (okC Δ) d) A) args s 0 0 A) (F0 m 25 ls []) := by
  have hx := X.1.1; have hb := X.1.2.1
  rw [C_X0_common_b25] at hf
  refine lv_iload_n hx hb dX0_common_25 rfl (lv_at hl 3 rfl) ?_
  refine lv_iconst (v := 1) hx hb dX0_common_26 (by decide) ?_
  refine lv_sipush (v := 200) hx hb dX0_common_27 (by decide) ?_
  obtain ⟨σ_1, r_2, hg, hf⟩ := bn2_s hf
  refine x_calli (x_runS (As := [.int x3, .int 1, .int 200]) (rest := []) X K O (m_C_X0_isIn hg) EN_b EN_h (lw_S q444 q445 q111 q446) 3 rfl hl.1 (Nat.le_of_ble_eq_true rfl) hdS_X0_isIn ⟨by decide, by decide⟩ ⟨Nat.le_refl _, Nat.le_refl _⟩ dX0_common_30) (fun r u H locs hp O _ => ?_)
  cases hp
  have O : XH D A s.heap (hC hs) (xct (LC Δ) (okC Δ) (hC hs) d σ_1) H locs := O
  refine lv_if_eq (tgt := 46) hx hb dX0_common_33 (by decide) (fun c_3 => ?_) (fun c_3 => ?_)
  · replace hf := if_t c_3 hf
    refine lv_ldc2 (v := (-1000000000)) hx hb X.1.2.2.2.1 (X.1.2.2.2.2 _ q944) dX0_common_46 ?_
    exact x_lret X O rfl _ (Option.some.inj hf).symm rfl dX0_common_49
  · replace hf := if_f c_3 hf
    refine lv_aload_n hx hb dX0_common_36 rfl (lv_at hl 0 rfl) ?_
    refine x_gF X K O 6 rfl LC_0 rfl rfl in_X0 (by decide) q379 dX0_common_37 ?_
    obtain ⟨σ_4, r_5, hg, hf⟩ := bn2_s hf
    refine x_calli (x_runV (As := []) (rest := []) X K O (xct_obj rfl LC_1) rfl (m_C_X1_weights rfl hg) EN_b EN_h (lw_V q943 q925 q926 q119 q927) 0 rfl hl.1 (Nat.le_of_ble_eq_true rfl) hdV_X1_weights ⟨by decide, by decide⟩ ⟨Nat.le_refl _, Nat.le_refl _⟩ dX0_common_40) (fun r u H locs hp O _ => ?_)
    cases hp
    have O : XH D A s.heap (hC hs) (xct (LC Δ) (okC Δ) (hC hs) d σ_4) H locs := O
    refine lv_if_ne (tgt := 50) hx hb dX0_common_43 (by decide) (fun c_6 => ?_) (fun c_6 => ?_)
    · replace hf := if_f c_6 hf
      refine lv_iload_n hx hb dX0_common_50 rfl (lv_at hl 2 rfl) ?_
      refine lv_iconst (v := (-1)) hx hb dX0_common_51 (by decide) ?_
      refine lv_icmp_eq (tgt := 67) hx hb dX0_common_52 (by decide) (fun c_7 => ?_) (fun c_7 => ?_)
      · replace hf := if_t c_7 hf
        refine lv_iconst (v := (-1)) hx hb dX0_common_67 (by decide) ?_
        refine lv_istore (lv' := [(4, .int (-1)), (0, .ref ((hC hs) 0 0 0)), (1, .int x1), (2, .int x2), (3, .int x3)]) hx hb dX0_common_68 hl (by decide) rfl (fun ls hl => ?_)
        refine lv_lconst (v := 0) hx hb dX0_common_70 (by decide) ?_
        refine lv_lstore (lv' := [(5, .long 0), (4, .int (-1)), (0, .ref ((hC hs) 0 0 0)), (1, .int x1), (2, .int x2), (3, .int x3)]) hx hb dX0_common_71 hl (by decide) rfl (fun ls hl => ?_)
        refine lv_iconst (v := 1) hx hb dX0_common_73 (by decide) ?_
        refine lv_istore (lv' := [(7, .int 1), (5, .long 0), (4, .int (-1)), (0, .ref ((hC hs) 0 0 0)), (1, .int x1), (2, .int x2), (3, .int x3)]) hx hb dX0_common_74 hl (by decide) rfl (fun ls hl => ?_)
        exact w_C_X0_common_b76 X K _ _ _ _ _ _ _ ls _ _ O (lv_sub hl [3, 4, 6, 2, 1, 0] rfl) hf
      · replace hf := if_f c_7 hf
        refine lv_aload_n hx hb dX0_common_55 rfl (lv_at hl 0 rfl) ?_
        refine lv_iload_n hx hb dX0_common_56 rfl (lv_at hl 1 rfl) ?_
        refine lv_iload_n hx hb dX0_common_57 rfl (lv_at hl 2 rfl) ?_
        refine lv_iload_n hx hb dX0_common_58 rfl (lv_at hl 3 rfl) ?_
        obtain ⟨σ_8, hg, hf⟩ := bn1_s hf
        refine x_callv (x_runV (As := [.int x1, .int x2, .int x3]) (rest := []) X K O (xct_obj rfl LC_0) rfl (m_C_X0_rounds hg) EN_b EN_h (lw_V q967 q969 qs32 q111 q970) 3 rfl hl.1 (Nat.le_of_ble_eq_true rfl) hdV_X0_rounds ⟨by decide, by decide⟩ ⟨Nat.le_refl _, Nat.le_refl _⟩ dX0_common_59) (fun u H locs hp O _ => ?_)
        cases hp
        have O : XH D A s.heap (hC hs) (xct (LC Δ) (okC Δ) (hC hs) d σ_8) H locs := O
        refine lv_aload_n hx hb dX0_common_62 rfl (lv_at hl 0 rfl) ?_
        refine x_gL X K O 15 rfl LC_0 rfl rfl in_X0 (by decide) q389 dX0_common_63 ?_
        exact x_lret X O rfl _ (Option.some.inj hf).symm rfl dX0_common_66
    · replace hf := if_t c_6 hf
      refine lv_ldc2 (v := (-1000000000)) hx hb X.1.2.2.2.1 (X.1.2.2.2.2 _ q944) dX0_common_46 ?_
      exact x_lret X O rfl _ (Option.some.inj hf).symm rfl dX0_common_49
def C_X0_common (Δ : DT) (σ : ST) (p1 : Int32) (p2 : Int32) (p3 : Int32) : Option (ST × Int64) :=
  bn2 (C_X0_isIn Δ σ p1 1 13) (fun σ_1 r_2 => (if r_2 = 0 then some (σ_1, (-1000000000)) else (if p2 = (-1) then C_X0_common_b25 Δ σ_1 p1 p2 p3 else bn2 (C_X0_isIn Δ σ_1 p2 1 9) (fun σ_5 r_6 => (if r_6 = 0 then some (σ_5, (-1000000000)) else C_X0_common_b25 Δ σ_5 p1 p2 p3)))))
theorem m_C_X0_common {l : Launch} {D : va_G} {d : Nat → ClassId} {hs : IX} {Δ : DT} {p1 : Int32} {p2 : Int32} {p3 : Int32} {σ : ST} {z : ST × Int64} (hf : C_X0_common Δ σ p1 p2 p3 = some z) : XM l D d EN yX0_common cX0_common 8 (some .long) 3 0 0 [.ref ((hC hs) 0 0 0), .int p1, .int p2, .int p3] (hC hs) (xct (LC Δ) (okC Δ) (hC hs) d σ) (Ql D (pz z) (cw (hC hs) (LC Δ) (okC Δ) d)) := by
  refine XM.of (by decide +kernel) (Nat.le_of_ble_eq_true rfl) ?_
  intro p e s m below meth c A ls X _ K _ O hl
  have hl : lv_has ls 8 [(0, .ref ((hC hs) 0 0 0)), (1, .int p1), (2, .int p2), (3, .int p3)] := hl
  have hx := X.1.1; have hb := X.1.2.1
  rw [C_X0_common] at hf
  refine lv_iload_n hx hb dX0_common_0 rfl (lv_at hl 1 rfl) ?_
  refine lv_iconst (v := 1) hx hb dX0_common_1 (by decide) ?_
  refine lv_bipush (v := 13) hx hb dX0_common_2 (by decide) ?_
  obtain ⟨σ_1, r_2, hg, hf⟩ := bn2_s hf
  refine x_calli (x_runS (As := [.int p1, .int 1, .int 13]) (rest := []) X K O (m_C_X0_isIn hg) EN_b EN_h (lw_S q444 q445 q111 q446) 3 rfl hl.1 (Nat.le_of_ble_eq_true rfl) hdS_X0_isIn ⟨by decide, by decide⟩ ⟨Nat.le_refl _, Nat.le_refl _⟩ dX0_common_4) (fun r u H locs hp O _ => ?_)
  cases hp
  have O : XH D A s.heap (hC hs) (xct (LC Δ) (okC Δ) (hC hs) d σ_1) H locs := O
  refine lv_if_eq (tgt := 46) hx hb dX0_common_7 (by decide) (fun c_3 => ?_) (fun c_3 => ?_)
  · replace hf := if_t c_3 hf
    refine lv_ldc2 (v := (-1000000000)) hx hb X.1.2.2.2.1 (X.1.2.2.2.2 _ q944) dX0_common_46 ?_
    exact x_lret X O rfl _ (Option.some.inj hf).symm rfl dX0_common_49
  · replace hf := if_f c_3 hf
    refine lv_iload_n hx hb dX0_common_10 rfl (lv_at hl 2 rfl) ?_
    refine lv_iconst (v := (-1)) hx hb dX0_common_11 (by decide) ?_
    refine lv_icmp_eq (tgt := 25) hx hb dX0_common_12 (by decide) (fun c_4 => ?_) (fun c_4 => ?_)
    · replace hf := if_t c_4 hf
      exact w_C_X0_common_b25 X K _ _ _ _ ls _ _ O (lv_sub hl [0, 1, 2, 3] rfl) hf
    · replace hf := if_f c_4 hf
      refine lv_iload_n hx hb dX0_common_15 rfl (lv_at hl 2 rfl) ?_
      refine lv_iconst (v := 1) hx hb dX0_common_16 (by decide) ?_
      refine lv_bipush (v := 9) hx hb dX0_common_17 (by decide) ?_
      obtain ⟨σ_5, r_6, hg, hf⟩ := bn2_s hf
      refine x_calli (x_runS (As := [.int p2, .int 1, .int 9]) (rest := []) X K O (m_C_X0_isIn hg) EN_b EN_h (lw_S q444 q445 q111 q446) 3 rfl hl.1 (Nat.le_of_ble_eq_true rfl) hdS_X0_isIn ⟨by decide, by decide⟩ ⟨Nat.le_refl _, Nat.le_refl _⟩ dX0_common_19) (fun r u H locs hp O _ => ?_)
      cases hp
      have O : XH D A s.heap (hC hs) (xct (LC Δ) (okC Δ) (hC hs) d σ_5) H locs := O
      refine lv_if_eq (tgt := 46) hx hb dX0_common_22 (by decide) (fun c_7 => ?_) (fun c_7 => ?_)
      · replace hf := if_t c_7 hf
        refine lv_ldc2 (v := (-1000000000)) hx hb X.1.2.2.2.1 (X.1.2.2.2.2 _ q944) dX0_common_46 ?_
        exact x_lret X O rfl _ (Option.some.inj hf).symm rfl dX0_common_49
      · replace hf := if_f c_7 hf
        exact w_C_X0_common_b25 X K _ _ _ _ ls _ _ O (lv_sub hl [0, 1, 2, 3] rfl) hf
def C_X0_isPair (Δ : DT) (σ : ST) (p1 : Int32) (p2 : Int32) (p3 : Int32) (p4 : Int32) : Option (ST × Int32) :=
  bn2 (C_X0_isIn Δ σ p1 1 20) (fun σ_1 r_2 => (if r_2 = 0 then some (σ_1, 0) else bn2 (C_X0_isIn Δ σ_1 p2 0 8) (fun σ_4 r_5 => (if r_5 = 0 then some (σ_4, 0) else bn2 (C_X0_isIn Δ σ_4 p3 0 8) (fun σ_7 r_8 => (if r_8 = 0 then some (σ_7, 0) else bn2 (C_X0_isIn Δ σ_7 p4 1 9) (fun σ_10 r_11 => (if r_11 = 0 then some (σ_10, 0) else bn2 (C_X1_weights Δ 0 σ_10) (fun σ_13 r_14 => (if r_14 ≤ 0 then some (σ_13, 0) else some (σ_13, 1)))))))))))
theorem m_C_X0_isPair {l : Launch} {D : va_G} {d : Nat → ClassId} {hs : IX} {Δ : DT} {p1 : Int32} {p2 : Int32} {p3 : Int32} {p4 : Int32} {σ : ST} {z : ST × Int32} (hf : C_X0_isPair Δ σ p1 p2 p3 p4 = some z) : XM l D d EN yX0_isPair cX0_isPair 5 (some .boolean) 1 0 0 [.ref ((hC hs) 0 0 0), .int p1, .int p2, .int p3, .int p4] (hC hs) (xct (LC Δ) (okC Δ) (hC hs) d σ) (Qi D (pz z) (cw (hC hs) (LC Δ) (okC Δ) d)) := by
  refine XM.of (by decide +kernel) (Nat.le_of_ble_eq_true rfl) ?_
  intro p e s m below meth c A ls X _ K _ O hl
  have hl : lv_has ls 5 [(0, .ref ((hC hs) 0 0 0)), (1, .int p1), (2, .int p2), (3, .int p3), (4, .int p4)] := hl
  have hx := X.1.1; have hb := X.1.2.1
  rw [C_X0_isPair] at hf
  refine lv_iload_n hx hb dX0_isPair_0 rfl (lv_at hl 1 rfl) ?_
  refine lv_iconst (v := 1) hx hb dX0_isPair_1 (by decide) ?_
  refine lv_bipush (v := 20) hx hb dX0_isPair_2 (by decide) ?_
  obtain ⟨σ_1, r_2, hg, hf⟩ := bn2_s hf
  refine x_calli (x_runS (As := [.int p1, .int 1, .int 20]) (rest := []) X K O (m_C_X0_isIn hg) EN_b EN_h (lw_S q444 q445 q111 q446) 3 rfl hl.1 (Nat.le_of_ble_eq_true rfl) hdS_X0_isIn ⟨by decide, by decide⟩ ⟨Nat.le_refl _, Nat.le_refl _⟩ dX0_isPair_4) (fun r u H locs hp O _ => ?_)
  cases hp
  have O : XH D A s.heap (hC hs) (xct (LC Δ) (okC Δ) (hC hs) d σ_1) H locs := O
  refine lv_if_eq (tgt := 55) hx hb dX0_isPair_7 (by decide) (fun c_3 => ?_) (fun c_3 => ?_)
  · replace hf := if_t c_3 hf
    refine lv_iconst (v := 0) hx hb dX0_isPair_55 (by decide) ?_
    exact x_zret X O rfl rfl _ (Option.some.inj hf).symm rfl dX0_isPair_56
  · replace hf := if_f c_3 hf
    refine lv_iload_n hx hb dX0_isPair_10 rfl (lv_at hl 2 rfl) ?_
    refine lv_iconst (v := 0) hx hb dX0_isPair_11 (by decide) ?_
    refine lv_bipush (v := 8) hx hb dX0_isPair_12 (by decide) ?_
    obtain ⟨σ_4, r_5, hg, hf⟩ := bn2_s hf
    refine x_calli (x_runS (As := [.int p2, .int 0, .int 8]) (rest := []) X K O (m_C_X0_isIn hg) EN_b EN_h (lw_S q444 q445 q111 q446) 3 rfl hl.1 (Nat.le_of_ble_eq_true rfl) hdS_X0_isIn ⟨by decide, by decide⟩ ⟨Nat.le_refl _, Nat.le_refl _⟩ dX0_isPair_14) (fun r u H locs hp O _ => ?_)
    cases hp
    have O : XH D A s.heap (hC hs) (xct (LC Δ) (okC Δ) (hC hs) d σ_4) H locs := O
    refine lv_if_eq (tgt := 55) hx hb dX0_isPair_17 (by decide) (fun c_6 => ?_) (fun c_6 => ?_)
    · replace hf := if_t c_6 hf
      refine lv_iconst (v := 0) hx hb dX0_isPair_55 (by decide) ?_
      exact x_zret X O rfl rfl _ (Option.some.inj hf).symm rfl dX0_isPair_56
    · replace hf := if_f c_6 hf
      refine lv_iload_n hx hb dX0_isPair_20 rfl (lv_at hl 3 rfl) ?_
      refine lv_iconst (v := 0) hx hb dX0_isPair_21 (by decide) ?_
      refine lv_bipush (v := 8) hx hb dX0_isPair_22 (by decide) ?_
      obtain ⟨σ_7, r_8, hg, hf⟩ := bn2_s hf
      refine x_calli (x_runS (As := [.int p3, .int 0, .int 8]) (rest := []) X K O (m_C_X0_isIn hg) EN_b EN_h (lw_S q444 q445 q111 q446) 3 rfl hl.1 (Nat.le_of_ble_eq_true rfl) hdS_X0_isIn ⟨by decide, by decide⟩ ⟨Nat.le_refl _, Nat.le_refl _⟩ dX0_isPair_24) (fun r u H locs hp O _ => ?_)
      cases hp
      have O : XH D A s.heap (hC hs) (xct (LC Δ) (okC Δ) (hC hs) d σ_7) H locs := O
      refine lv_if_eq (tgt := 55) hx hb dX0_isPair_27 (by decide) (fun c_9 => ?_) (fun c_9 => ?_)
      · replace hf := if_t c_9 hf
        refine lv_iconst (v := 0) hx hb dX0_isPair_55 (by decide) ?_
        exact x_zret X O rfl rfl _ (Option.some.inj hf).symm rfl dX0_isPair_56
      · replace hf := if_f c_9 hf
        refine lv_iload hx hb dX0_isPair_30 (lv_at hl 4 rfl) ?_
        refine lv_iconst (v := 1) hx hb dX0_isPair_32 (by decide) ?_
        refine lv_bipush (v := 9) hx hb dX0_isPair_33 (by decide) ?_
        obtain ⟨σ_10, r_11, hg, hf⟩ := bn2_s hf
        refine x_calli (x_runS (As := [.int p4, .int 1, .int 9]) (rest := []) X K O (m_C_X0_isIn hg) EN_b EN_h (lw_S q444 q445 q111 q446) 3 rfl hl.1 (Nat.le_of_ble_eq_true rfl) hdS_X0_isIn ⟨by decide, by decide⟩ ⟨Nat.le_refl _, Nat.le_refl _⟩ dX0_isPair_35) (fun r u H locs hp O _ => ?_)
        cases hp
        have O : XH D A s.heap (hC hs) (xct (LC Δ) (okC Δ) (hC hs) d σ_10) H locs := O
        refine lv_if_eq (tgt := 55) hx hb dX0_isPair_38 (by decide) (fun c_12 => ?_) (fun c_12 => ?_)
        · replace hf := if_t c_12 hf
          refine lv_iconst (v := 0) hx hb dX0_isPair_55 (by decide) ?_
          exact x_zret X O rfl rfl _ (Option.some.inj hf).symm rfl dX0_isPair_56
        · replace hf := if_f c_12 hf
          refine lv_aload_n hx hb dX0_isPair_41 rfl (lv_at hl 0 rfl) ?_
          refine x_gF X K O 6 rfl LC_0 rfl rfl in_X0 (by decide) q379 dX0_isPair_42 ?_
          obtain ⟨σ_13, r_14, hg, hf⟩ := bn2_s hf
          refine x_calli (x_runV (As := []) (rest := []) X K O (xct_obj rfl LC_1) rfl (m_C_X1_weights rfl hg) EN_b EN_h (lw_V q943 q925 q926 q119 q927) 0 rfl hl.1 (Nat.le_of_ble_eq_true rfl) hdV_X1_weights ⟨by decide, by decide⟩ ⟨Nat.le_refl _, Nat.le_refl _⟩ dX0_isPair_45) (fun r u H locs hp O _ => ?_)
          cases hp
          have O : XH D A s.heap (hC hs) (xct (LC Δ) (okC Δ) (hC hs) d σ_13) H locs := O
          refine lv_if_le (tgt := 55) hx hb dX0_isPair_48 (by decide) (fun c_15 => ?_) (fun c_15 => ?_)
          · replace hf := if_t c_15 hf
            refine lv_iconst (v := 0) hx hb dX0_isPair_55 (by decide) ?_
            exact x_zret X O rfl rfl _ (Option.some.inj hf).symm rfl dX0_isPair_56
          · replace hf := if_f c_15 hf
            refine lv_iconst (v := 1) hx hb dX0_isPair_51 (by decide) ?_
            refine lv_goto (tgt := 56) hx hb dX0_isPair_52 (by decide) ?_
            exact x_zret X O rfl rfl _ (Option.some.inj hf).symm rfl dX0_isPair_56
def C_X5_on (Δ : DT) (σ : ST) (p1 : Int32) (p2 : Int32) : Option (ST × Int32) :=
  (if p2 = 0 then some (σ, (imin 8 (p1 + 1))) else some (σ, (p1 - (gI σ 3 0 0 4))))
theorem m_C_X5_on {l : Launch} {D : va_G} {d : Nat → ClassId} {hs : IX} {Δ : DT} {p1 : Int32} {p2 : Int32} {σ : ST} {z : ST × Int32} (hf : C_X5_on Δ σ p1 p2 = some z) : XM l D d EN yX5_on cX5_on 3 (some .int) 1 0 0 [.ref ((hC hs) 3 0 0), .int p1, .int p2] (hC hs) (xct (LC Δ) (okC Δ) (hC hs) d σ) (Qi D (pz z) (cw (hC hs) (LC Δ) (okC Δ) d)) := by
  refine XM.of (by decide +kernel) (Nat.le_of_ble_eq_true rfl) ?_
  intro p e s m below meth c A ls X _ K _ O hl
  have hl : lv_has ls 3 [(0, .ref ((hC hs) 3 0 0)), (1, .int p1), (2, .int p2)] := hl
  have hx := X.1.1; have hb := X.1.2.1
  rw [C_X5_on] at hf
  refine lv_iload_n hx hb dX5_on_0 rfl (lv_at hl 2 rfl) ?_
  refine lv_if_eq (tgt := 13) hx hb dX5_on_1 (by decide) (fun c_1 => ?_) (fun c_1 => ?_)
  · replace hf := if_t c_1 hf
    refine lv_bipush (v := 8) hx hb dX5_on_13 (by decide) ?_
    refine lv_iload_n hx hb dX5_on_15 rfl (lv_at hl 1 rfl) ?_
    refine lv_iconst (v := 1) hx hb dX5_on_16 (by decide) ?_
    refine lv_iadd hx hb dX5_on_17 ?_
    refine va_mmin hx hb (X.1.2.2.1.trans hl.1.symm) X.1.2.2.2.1 (X.1.2.2.2.2 _ q1015) (X.1.2.2.2.2 _ q230) (X.1.2.2.2.2 _ q116) (X.1.2.2.2.2 _ q231) (by decide) (Nat.le_of_ble_eq_true rfl) (Nat.le_refl _) (Nat.le_refl _) dX5_on_18 ?_
    refine x_top (w := .int (imin 8 (p1 + 1))) rfl ?_
    exact x_iret X O rfl _ (Option.some.inj hf).symm rfl dX5_on_21
  · replace hf := if_f c_1 hf
    refine lv_iload_n hx hb dX5_on_4 rfl (lv_at hl 1 rfl) ?_
    refine lv_aload_n hx hb dX5_on_5 rfl (lv_at hl 0 rfl) ?_
    refine x_gI X K O 4 rfl LC_3 rfl rfl in_X5 (by decide) q347 dX5_on_6 ?_
    refine lv_isub hx hb dX5_on_9 ?_
    refine lv_goto (tgt := 21) hx hb dX5_on_10 (by decide) ?_
    exact x_iret X O rfl _ (Option.some.inj hf).symm rfl dX5_on_21
theorem hdS_X0_greatestSize : (yX0_greatestSize.cls ≠ "java/lang/invoke/MethodHandle" ∧ yX0_greatestSize.cls ≠ "java/lang/invoke/VarHandle" ∧ (parseMethodDescriptor yX0_greatestSize.desc).map (fun d => d.parameters.length) = some 0) := by decide +kernel
theorem hdV_X5_on : yX5_on.cls = RX5 ∧ (yX5_on.cls ≠ "java/lang/invoke/MethodHandle" ∧ yX5_on.cls ≠ "java/lang/invoke/VarHandle" ∧ (parseMethodDescriptor yX5_on.desc).map (fun d => d.parameters.length) = some 2) := by decide +kernel
def C_X5_splits_b131 (Δ : DT) (kb21 : ST → Int32 → Int32 → Int32 → Int64 → Int32 → Option (ST)) (σ : ST) (x1 : Int32) (x2 : Int32) (x3 : Int32) (x4 : Int64) (x6 : Int32) (x7 : Int64) (x9 : Int32) (s0 : Int32) : Option (ST) :=
  ck ((okC Δ) 14 (gR σ 3 0 0 1) 0) (bn2 (C_X5_on Δ σ x1 x9) (fun σ_2 r_3 => ck (okI r_3 9) (bn2 (C_X5_on Δ σ_2 x2 s0) (fun σ_5 r_6 => ck (okI r_6 9) (ck (okI r_6 9) (lt1 (sL σ_5 15 (gR σ 3 0 0 1) (Int32.toNatClampNeg r_3) (Int32.toNatClampNeg r_6) ((gL σ_5 15 (gR σ 3 0 0 1) (Int32.toNatClampNeg r_3) (Int32.toNatClampNeg r_6)) + x7)) (fun σ_9 => bn2 (C_X1_worth Δ 0 σ_9 x9 s0) (fun σ_10 r_11 => lt1 (sL σ_10 13 0 0 0 ((gL σ_9 13 0 0 0) + ((x7 * (r_11.toInt64)) * (x6.toInt64)))) (fun σ_12 => bn2 (C_X1_worth Δ 0 σ_12 s0 x9) (fun σ_13 r_14 => lt1 (sL σ_13 13 0 0 1 ((gL σ_12 13 0 0 1) + ((x7 * (r_14.toInt64)) * (x6.toInt64)))) (fun σ_15 => lt1 (x6 + 1) (fun x6_16 => kb21 σ_15 x1 x2 x3 x4 x6_16))))))))))))
theorem w_C_X5_splits_b131 {Δ : DT} (X : FX p m c meth s args RX5 cX5_splits 11 none) (K : XK D d A s) {z : ST} {kb21 : ST → Int32 → Int32 → Int32 → Int64 → Int32 → Option (ST)} (hkb21 : ∀ (σ : ST) (x1 : Int32) (x2 : Int32) (x3 : Int32) (x4 : Int64) (x6 : Int32) (ls : Array Slot) (H : Heap) (locs : List Loc), XH D A s.heap (hC hs) (xct (LC Δ) (okC Δ) (hC hs) d σ) H locs → lv_has ls 11 [(0, .ref ((hC hs) 3 0 0)), (1, .int x1), (2, .int x2), (3, .int x3), (4, .long x4), (6, .int x6)] → kb21 σ x1 x2 x3 x4 x6 = some z → W p l e (rmD 2 0 0) s m args below meth c H locs 0 0 (MQ below (Qv D (pu z) (cw (hC hs) (LC Δ) (okC Δ) d) A) args s 0 0 A) (F0 m 21 ls [])) (σ : ST) (x1 : Int32) (x2 : Int32) (x3 : Int32) (x4 : Int64) (x6 : Int32) (x7 : Int64) (x9 : Int32) (s0 : Int32) (ls : Array Slot) (H : Heap) (locs : List Loc) (O : XH D A s.heap (hC hs) (xct (LC Δ) (okC Δ) (hC hs) d σ) H locs) (hl : lv_has ls 11 [(0, .ref ((hC hs) 3 0 0)), (1, .int x1), (2, .int x2), (3, .int x3), (4, .long x4), (6, .int x6), (7, .long x7), (9, .int x9)]) (hf : C_X5_splits_b131 Δ kb21 σ x1 x2 x3 x4 x6 x7 x9 s0 = some z) : W p l e (rmD 2 0 0) s m args below meth c H locs 0 0 (MQ below (Qv D (pu z) (cw (hC hs) (LC Δ) (okC Δ) d) A) args s 0 0 A) (F0 m 131 ls [.int s0]) := by
  have hx := X.1.1; have hb := X.1.2.1
  rw [C_X5_splits_b131] at hf
  refine lv_istore (lv' := [(10, .int s0), (0, .ref ((hC hs) 3 0 0)), (1, .int x1), (2, .int x2), (3, .int x3), (4, .long x4), (6, .int x6), (7, .long x7), (9, .int x9)]) hx hb dX5_splits_131 hl (by decide) rfl (fun ls hl => ?_)
  refine lv_aload_n hx hb dX5_splits_133 rfl (lv_at hl 1 rfl) ?_
  obtain ⟨c_1, hf⟩ := ck_s hf
  refine x_gR X K O 1 rfl LC_3 rfl rfl in_X5 (by decide) q343 dX5_splits_134 ?_
  refine lv_aload_n hx hb dX5_splits_137 rfl (lv_at hl 1 rfl) ?_
  refine lv_iload_n hx hb dX5_splits_138 rfl (lv_at hl 2 rfl) ?_
  refine lv_iload hx hb dX5_splits_139 (lv_at hl 8 rfl) ?_
  obtain ⟨σ_2, r_3, hg, hf⟩ := bn2_s hf
  refine x_calli (x_runV (As := [.int x1, .int x9]) (rest := [.ref ((hC hs) 14 (gR σ 3 0 0 1) 0)]) X K O (xct_obj rfl LC_3) rfl (m_C_X5_on hg) EN_b EN_h (lw_V q1011 q1013 qs38 q123 q1014) 2 rfl hl.1 (Nat.le_of_ble_eq_true rfl) hdV_X5_on ⟨by decide, by decide⟩ ⟨Nat.le_refl _, Nat.le_refl _⟩ dX5_splits_141) (fun r u H locs hp O _ => ?_)
  cases hp
  have O : XH D A s.heap (hC hs) (xct (LC Δ) (okC Δ) (hC hs) d σ_2) H locs := O
  obtain ⟨c_4, hf⟩ := ck_s hf
  refine x_ald X K O 5 c_1 LC_14 (by decide) rfl rfl c_4 (j := (Int32.toNatClampNeg r_3)) rfl dX5_splits_144 ?_
  refine lv_aload_n hx hb dX5_splits_145 rfl (lv_at hl 1 rfl) ?_
  refine lv_iload_n hx hb dX5_splits_146 rfl (lv_at hl 3 rfl) ?_
  refine lv_iload hx hb dX5_splits_147 (lv_at hl 0 rfl) ?_
  obtain ⟨σ_5, r_6, hg, hf⟩ := bn2_s hf
  refine x_calli (x_runV (As := [.int x2, .int s0]) (rest := [.ref ((hC hs) 15 (gR σ 3 0 0 1) (Int32.toNatClampNeg r_3))]) X K O (xct_obj rfl LC_3) rfl (m_C_X5_on hg) EN_b EN_h (lw_V q1011 q1013 qs38 q123 q1014) 2 rfl hl.1 (Nat.le_of_ble_eq_true rfl) hdV_X5_on ⟨by decide, by decide⟩ ⟨Nat.le_refl _, Nat.le_refl _⟩ dX5_splits_149) (fun r u H locs hp O _ => ?_)
  cases hp
  have O : XH D A s.heap (hC hs) (xct (LC Δ) (okC Δ) (hC hs) d σ_5) H locs := O
  refine lv_dup2_11 hx hb dX5_splits_152 rfl rfl ?_
  obtain ⟨c_7, hf⟩ := ck_s hf
  refine x_lld X K O (oks_b c_1 (okI_lt c_4)) LC_15 c_7 (j := (Int32.toNatClampNeg r_6)) rfl dX5_splits_153 ?_
  refine lv_lload hx hb dX5_splits_154 (lv_at hl 7 rfl) ?_
  refine lv_ladd hx hb dX5_splits_156 ?_
  obtain ⟨c_8, hf⟩ := ck_s hf
  obtain ⟨σ_9, eσ_9, hf⟩ := lt1_s hf
  refine x_lst X K O (oks_b c_1 (okI_lt c_4)) LC_15 c_8 (j := (Int32.toNatClampNeg r_6)) rfl dX5_splits_157 (fun H locs O => ?_)
  rw [← eσ_9] at O
  refine lv_aload_n hx hb dX5_splits_158 rfl (lv_at hl 1 rfl) ?_
  refine x_gF X K O 2 rfl LC_3 rfl rfl in_X5 (by decide) q344 dX5_splits_159 ?_
  refine lv_iconst (v := 0) hx hb dX5_splits_162 (by decide) ?_
  refine lv_dup2_11 hx hb dX5_splits_163 rfl rfl ?_
  refine x_lld X K O rfl LC_13 (by decide) (j := 0) rfl dX5_splits_164 ?_
  refine lv_lload hx hb dX5_splits_165 (lv_at hl 7 rfl) ?_
  refine lv_aload_n hx hb dX5_splits_167 rfl (lv_at hl 1 rfl) ?_
  refine x_gF X K O 7 rfl LC_3 rfl rfl in_X5 (by decide) q350 dX5_splits_168 ?_
  refine x_gFN X K O 6 rfl LC_0 rfl rfl in_X0 (by decide) q380 dX5_splits_171 ?_
  refine lv_iload hx hb dX5_splits_174 (lv_at hl 8 rfl) ?_
  refine lv_iload hx hb dX5_splits_176 (lv_at hl 0 rfl) ?_
  obtain ⟨σ_10, r_11, hg, hf⟩ := bn2_s hf
  refine x_calli (x_runV (As := [.int x9, .int s0]) (rest := [.long x7, .long (gL σ_9 13 0 0 0), .int 0, .ref ((hC hs) 13 0 0)]) X K O (xct_obj rfl LC_1) rfl (m_C_X1_worth rfl hg) EN_b EN_h (lw_V q1016 q890 q891 q119 q892) 2 rfl hl.1 (Nat.le_of_ble_eq_true rfl) hdV_X1_worth ⟨by decide, by decide⟩ ⟨Nat.le_refl _, Nat.le_refl _⟩ dX5_splits_178) (fun r u H locs hp O _ => ?_)
  cases hp
  have O : XH D A s.heap (hC hs) (xct (LC Δ) (okC Δ) (hC hs) d σ_10) H locs := O
  refine lv_i2l (v := (r_11.toInt64)) hx hb dX5_splits_181 rfl ?_
  refine lv_lmul hx hb dX5_splits_182 ?_
  refine lv_iload hx hb dX5_splits_183 (lv_at hl 6 rfl) ?_
  refine lv_i2l (v := (x6.toInt64)) hx hb dX5_splits_185 rfl ?_
  refine lv_lmul hx hb dX5_splits_186 ?_
  refine lv_ladd hx hb dX5_splits_187 ?_
  obtain ⟨σ_12, eσ_12, hf⟩ := lt1_s hf
  refine x_lst X K O rfl LC_13 (by decide) (j := 0) rfl dX5_splits_188 (fun H locs O => ?_)
  rw [← eσ_12] at O
  refine lv_aload_n hx hb dX5_splits_189 rfl (lv_at hl 1 rfl) ?_
  refine x_gF X K O 2 rfl LC_3 rfl rfl in_X5 (by decide) q344 dX5_splits_190 ?_
  refine lv_iconst (v := 1) hx hb dX5_splits_193 (by decide) ?_
  refine lv_dup2_11 hx hb dX5_splits_194 rfl rfl ?_
  refine x_lld X K O rfl LC_13 (by decide) (j := 1) rfl dX5_splits_195 ?_
  refine lv_lload hx hb dX5_splits_196 (lv_at hl 7 rfl) ?_
  refine lv_aload_n hx hb dX5_splits_198 rfl (lv_at hl 1 rfl) ?_
  refine x_gF X K O 7 rfl LC_3 rfl rfl in_X5 (by decide) q350 dX5_splits_199 ?_
  refine x_gFN X K O 6 rfl LC_0 rfl rfl in_X0 (by decide) q380 dX5_splits_202 ?_
  refine lv_iload hx hb dX5_splits_205 (lv_at hl 0 rfl) ?_
  refine lv_iload hx hb dX5_splits_207 (lv_at hl 8 rfl) ?_
  obtain ⟨σ_13, r_14, hg, hf⟩ := bn2_s hf
  refine x_calli (x_runV (As := [.int s0, .int x9]) (rest := [.long x7, .long (gL σ_12 13 0 0 1), .int 1, .ref ((hC hs) 13 0 0)]) X K O (xct_obj rfl LC_1) rfl (m_C_X1_worth rfl hg) EN_b EN_h (lw_V q1016 q890 q891 q119 q892) 2 rfl hl.1 (Nat.le_of_ble_eq_true rfl) hdV_X1_worth ⟨by decide, by decide⟩ ⟨Nat.le_refl _, Nat.le_refl _⟩ dX5_splits_209) (fun r u H locs hp O _ => ?_)
  cases hp
  have O : XH D A s.heap (hC hs) (xct (LC Δ) (okC Δ) (hC hs) d σ_13) H locs := O
  refine lv_i2l (v := (r_14.toInt64)) hx hb dX5_splits_212 rfl ?_
  refine lv_lmul hx hb dX5_splits_213 ?_
  refine lv_iload hx hb dX5_splits_214 (lv_at hl 6 rfl) ?_
  refine lv_i2l (v := (x6.toInt64)) hx hb dX5_splits_216 rfl ?_
  refine lv_lmul hx hb dX5_splits_217 ?_
  refine lv_ladd hx hb dX5_splits_218 ?_
  obtain ⟨σ_15, eσ_15, hf⟩ := lt1_s hf
  refine x_lst X K O rfl LC_13 (by decide) (j := 1) rfl dX5_splits_219 (fun H locs O => ?_)
  rw [← eσ_15] at O
  obtain ⟨x6_16, ex6_16, hf⟩ := lt1_s hf
  refine lv_iinc (v := x6_16) (lv' := [(6, .int x6_16), (10, .int s0), (0, .ref ((hC hs) 3 0 0)), (1, .int x1), (2, .int x2), (3, .int x3), (4, .long x4), (7, .long x7), (9, .int x9)]) hx hb dX5_splits_220 hl (k := 6) rfl (by rw [ex6_16]; rfl) (by decide) rfl (fun ls hl => ?_)
  refine lv_goto (tgt := 21) hx hb dX5_splits_223 (by decide) ?_
  exact hkb21 _ _ _ _ _ _ ls _ _ O (lv_sub hl [2, 3, 4, 5, 6, 0] rfl) hf
def C_X5_splits_b130 (Δ : DT) (kb21 : ST → Int32 → Int32 → Int32 → Int64 → Int32 → Option (ST)) (σ : ST) (x1 : Int32) (x2 : Int32) (x3 : Int32) (x4 : Int64) (x6 : Int32) (x7 : Int64) (x9 : Int32) : Option (ST) :=
  C_X5_splits_b131 Δ kb21 σ x1 x2 x3 x4 x6 x7 x9 0
theorem w_C_X5_splits_b130 {Δ : DT} (X : FX p m c meth s args RX5 cX5_splits 11 none) (K : XK D d A s) {z : ST} {kb21 : ST → Int32 → Int32 → Int32 → Int64 → Int32 → Option (ST)} (hkb21 : ∀ (σ : ST) (x1 : Int32) (x2 : Int32) (x3 : Int32) (x4 : Int64) (x6 : Int32) (ls : Array Slot) (H : Heap) (locs : List Loc), XH D A s.heap (hC hs) (xct (LC Δ) (okC Δ) (hC hs) d σ) H locs → lv_has ls 11 [(0, .ref ((hC hs) 3 0 0)), (1, .int x1), (2, .int x2), (3, .int x3), (4, .long x4), (6, .int x6)] → kb21 σ x1 x2 x3 x4 x6 = some z → W p l e (rmD 2 0 0) s m args below meth c H locs 0 0 (MQ below (Qv D (pu z) (cw (hC hs) (LC Δ) (okC Δ) d) A) args s 0 0 A) (F0 m 21 ls [])) (σ : ST) (x1 : Int32) (x2 : Int32) (x3 : Int32) (x4 : Int64) (x6 : Int32) (x7 : Int64) (x9 : Int32) (ls : Array Slot) (H : Heap) (locs : List Loc) (O : XH D A s.heap (hC hs) (xct (LC Δ) (okC Δ) (hC hs) d σ) H locs) (hl : lv_has ls 11 [(0, .ref ((hC hs) 3 0 0)), (1, .int x1), (2, .int x2), (3, .int x3), (4, .long x4), (6, .int x6), (7, .long x7), (9, .int x9)]) (hf : C_X5_splits_b130 Δ kb21 σ x1 x2 x3 x4 x6 x7 x9 = some z) : W p l e (rmD 2 0 0) s m args below meth c H locs 0 0 (MQ below (Qv D (pu z) (cw (hC hs) (LC Δ) (okC Δ) d) A) args s 0 0 A) (F0 m 130 ls []) := by
  have hx := X.1.1; have hb := X.1.2.1
  rw [C_X5_splits_b130] at hf
  refine lv_iconst (v := 0) hx hb dX5_splits_130 (by decide) ?_
  exact w_C_X5_splits_b131 X K hkb21 _ _ _ _ _ _ _ _ _ ls _ _ O (lv_sub hl [0, 1, 2, 3, 4, 5, 6, 7] rfl) hf
def C_X5_splits_b107 (Δ : DT) (kb21 : ST → Int32 → Int32 → Int32 → Int64 → Int32 → Option (ST)) (σ : ST) (x1 : Int32) (x2 : Int32) (x3 : Int32) (x4 : Int64) (x6 : Int32) (x7 : Int64) (s0 : Int32) : Option (ST) :=
  (if x6 < (gI σ 3 0 0 6) then C_X5_splits_b130 Δ kb21 σ x1 x2 x3 x4 x6 x7 s0 else (if x2 < (gI σ 3 0 0 4) then C_X5_splits_b130 Δ kb21 σ x1 x2 x3 x4 x6 x7 s0 else C_X5_splits_b131 Δ kb21 σ x1 x2 x3 x4 x6 x7 s0 1))
theorem w_C_X5_splits_b107 {Δ : DT} (X : FX p m c meth s args RX5 cX5_splits 11 none) (K : XK D d A s) {z : ST} {kb21 : ST → Int32 → Int32 → Int32 → Int64 → Int32 → Option (ST)} (hkb21 : ∀ (σ : ST) (x1 : Int32) (x2 : Int32) (x3 : Int32) (x4 : Int64) (x6 : Int32) (ls : Array Slot) (H : Heap) (locs : List Loc), XH D A s.heap (hC hs) (xct (LC Δ) (okC Δ) (hC hs) d σ) H locs → lv_has ls 11 [(0, .ref ((hC hs) 3 0 0)), (1, .int x1), (2, .int x2), (3, .int x3), (4, .long x4), (6, .int x6)] → kb21 σ x1 x2 x3 x4 x6 = some z → W p l e (rmD 2 0 0) s m args below meth c H locs 0 0 (MQ below (Qv D (pu z) (cw (hC hs) (LC Δ) (okC Δ) d) A) args s 0 0 A) (F0 m 21 ls [])) (σ : ST) (x1 : Int32) (x2 : Int32) (x3 : Int32) (x4 : Int64) (x6 : Int32) (x7 : Int64) (s0 : Int32) (ls : Array Slot) (H : Heap) (locs : List Loc) (O : XH D A s.heap (hC hs) (xct (LC Δ) (okC Δ) (hC hs) d σ) H locs) (hl : lv_has ls 11 [(0, .ref ((hC hs) 3 0 0)), (1, .int x1), (2, .int x2), (3, .int x3), (4, .long x4), (6, .int x6), (7, .long x7)]) (hf : C_X5_splits_b107 Δ kb21 σ x1 x2 x3 x4 x6 x7 s0 = some z) : W p l e (rmD 2 0 0) s m args below meth c H locs 0 0 (MQ below (Qv D (pu z) (cw (hC hs) (LC Δ) (okC Δ) d) A) args s 0 0 A) (F0 m 107 ls [.int s0]) := by
  have hx := X.1.1; have hb := X.1.2.1
  rw [C_X5_splits_b107] at hf
  refine lv_istore (lv' := [(9, .int s0), (0, .ref ((hC hs) 3 0 0)), (1, .int x1), (2, .int x2), (3, .int x3), (4, .long x4), (6, .int x6), (7, .long x7)]) hx hb dX5_splits_107 hl (by decide) rfl (fun ls hl => ?_)
  refine lv_iload hx hb dX5_splits_109 (lv_at hl 6 rfl) ?_
  refine lv_aload_n hx hb dX5_splits_111 rfl (lv_at hl 1 rfl) ?_
  refine x_gI X K O 6 rfl LC_3 rfl rfl in_X5 (by decide) q349 dX5_splits_112 ?_
  refine lv_icmp_lt (tgt := 130) hx hb dX5_splits_115 (by decide) (fun c_1 => ?_) (fun c_1 => ?_)
  · replace hf := if_t c_1 hf
    exact w_C_X5_splits_b130 X K hkb21 _ _ _ _ _ _ _ _ ls _ _ O (lv_sub hl [1, 2, 3, 4, 5, 6, 7, 0] rfl) hf
  · replace hf := if_f c_1 hf
    refine lv_iload_n hx hb dX5_splits_118 rfl (lv_at hl 3 rfl) ?_
    refine lv_aload_n hx hb dX5_splits_119 rfl (lv_at hl 1 rfl) ?_
    refine x_gI X K O 4 rfl LC_3 rfl rfl in_X5 (by decide) q347 dX5_splits_120 ?_
    refine lv_icmp_lt (tgt := 130) hx hb dX5_splits_123 (by decide) (fun c_2 => ?_) (fun c_2 => ?_)
    · replace hf := if_t c_2 hf
      exact w_C_X5_splits_b130 X K hkb21 _ _ _ _ _ _ _ _ ls _ _ O (lv_sub hl [1, 2, 3, 4, 5, 6, 7, 0] rfl) hf
    · replace hf := if_f c_2 hf
      refine lv_iconst (v := 1) hx hb dX5_splits_126 (by decide) ?_
      refine lv_goto (tgt := 131) hx hb dX5_splits_127 (by decide) ?_
      exact w_C_X5_splits_b131 X K hkb21 _ _ _ _ _ _ _ _ _ ls _ _ O (lv_sub hl [1, 2, 3, 4, 5, 6, 7, 0] rfl) hf
def C_X5_splits_b106 (Δ : DT) (kb21 : ST → Int32 → Int32 → Int32 → Int64 → Int32 → Option (ST)) (σ : ST) (x1 : Int32) (x2 : Int32) (x3 : Int32) (x4 : Int64) (x6 : Int32) (x7 : Int64) : Option (ST) :=
  C_X5_splits_b107 Δ kb21 σ x1 x2 x3 x4 x6 x7 0
theorem w_C_X5_splits_b106 {Δ : DT} (X : FX p m c meth s args RX5 cX5_splits 11 none) (K : XK D d A s) {z : ST} {kb21 : ST → Int32 → Int32 → Int32 → Int64 → Int32 → Option (ST)} (hkb21 : ∀ (σ : ST) (x1 : Int32) (x2 : Int32) (x3 : Int32) (x4 : Int64) (x6 : Int32) (ls : Array Slot) (H : Heap) (locs : List Loc), XH D A s.heap (hC hs) (xct (LC Δ) (okC Δ) (hC hs) d σ) H locs → lv_has ls 11 [(0, .ref ((hC hs) 3 0 0)), (1, .int x1), (2, .int x2), (3, .int x3), (4, .long x4), (6, .int x6)] → kb21 σ x1 x2 x3 x4 x6 = some z → W p l e (rmD 2 0 0) s m args below meth c H locs 0 0 (MQ below (Qv D (pu z) (cw (hC hs) (LC Δ) (okC Δ) d) A) args s 0 0 A) (F0 m 21 ls [])) (σ : ST) (x1 : Int32) (x2 : Int32) (x3 : Int32) (x4 : Int64) (x6 : Int32) (x7 : Int64) (ls : Array Slot) (H : Heap) (locs : List Loc) (O : XH D A s.heap (hC hs) (xct (LC Δ) (okC Δ) (hC hs) d σ) H locs) (hl : lv_has ls 11 [(0, .ref ((hC hs) 3 0 0)), (1, .int x1), (2, .int x2), (3, .int x3), (4, .long x4), (6, .int x6), (7, .long x7)]) (hf : C_X5_splits_b106 Δ kb21 σ x1 x2 x3 x4 x6 x7 = some z) : W p l e (rmD 2 0 0) s m args below meth c H locs 0 0 (MQ below (Qv D (pu z) (cw (hC hs) (LC Δ) (okC Δ) d) A) args s 0 0 A) (F0 m 106 ls []) := by
  have hx := X.1.1; have hb := X.1.2.1
  rw [C_X5_splits_b106] at hf
  refine lv_iconst (v := 0) hx hb dX5_splits_106 (by decide) ?_
  exact w_C_X5_splits_b107 X K hkb21 _ _ _ _ _ _ _ _ ls _ _ O (lv_sub hl [0, 1, 2, 3, 4, 5, 6] rfl) hf
def C_X5_splits_b76 (Δ : DT) (kb21 : ST → Int32 → Int32 → Int32 → Int64 → Int32 → Option (ST)) (σ : ST) (x1 : Int32) (x2 : Int32) (x3 : Int32) (x4 : Int64) (x6 : Int32) (s0 : Int64) : Option (ST) :=
  lt1 (x4 - s0) (fun x4_1 => (if x6 < (gI σ 3 0 0 5) then C_X5_splits_b106 Δ kb21 σ x1 x2 x3 x4_1 x6 s0 else (if x1 < (gI σ 3 0 0 4) then C_X5_splits_b106 Δ kb21 σ x1 x2 x3 x4_1 x6 s0 else C_X5_splits_b107 Δ kb21 σ x1 x2 x3 x4_1 x6 s0 1)))
theorem w_C_X5_splits_b76 {Δ : DT} (X : FX p m c meth s args RX5 cX5_splits 11 none) (K : XK D d A s) {z : ST} {kb21 : ST → Int32 → Int32 → Int32 → Int64 → Int32 → Option (ST)} (hkb21 : ∀ (σ : ST) (x1 : Int32) (x2 : Int32) (x3 : Int32) (x4 : Int64) (x6 : Int32) (ls : Array Slot) (H : Heap) (locs : List Loc), XH D A s.heap (hC hs) (xct (LC Δ) (okC Δ) (hC hs) d σ) H locs → lv_has ls 11 [(0, .ref ((hC hs) 3 0 0)), (1, .int x1), (2, .int x2), (3, .int x3), (4, .long x4), (6, .int x6)] → kb21 σ x1 x2 x3 x4 x6 = some z → W p l e (rmD 2 0 0) s m args below meth c H locs 0 0 (MQ below (Qv D (pu z) (cw (hC hs) (LC Δ) (okC Δ) d) A) args s 0 0 A) (F0 m 21 ls [])) (σ : ST) (x1 : Int32) (x2 : Int32) (x3 : Int32) (x4 : Int64) (x6 : Int32) (s0 : Int64) (ls : Array Slot) (H : Heap) (locs : List Loc) (O : XH D A s.heap (hC hs) (xct (LC Δ) (okC Δ) (hC hs) d σ) H locs) (hl : lv_has ls 11 [(0, .ref ((hC hs) 3 0 0)), (1, .int x1), (2, .int x2), (3, .int x3), (4, .long x4), (6, .int x6)]) (hf : C_X5_splits_b76 Δ kb21 σ x1 x2 x3 x4 x6 s0 = some z) : W p l e (rmD 2 0 0) s m args below meth c H locs 0 0 (MQ below (Qv D (pu z) (cw (hC hs) (LC Δ) (okC Δ) d) A) args s 0 0 A) (F0 m 76 ls [.long s0]) := by
  have hx := X.1.1; have hb := X.1.2.1
  rw [C_X5_splits_b76] at hf
  refine lv_lstore (lv' := [(7, .long s0), (0, .ref ((hC hs) 3 0 0)), (1, .int x1), (2, .int x2), (3, .int x3), (4, .long x4), (6, .int x6)]) hx hb dX5_splits_76 hl (by decide) rfl (fun ls hl => ?_)
  refine lv_lload hx hb dX5_splits_78 (lv_at hl 5 rfl) ?_
  refine lv_lload hx hb dX5_splits_80 (lv_at hl 0 rfl) ?_
  refine lv_lsub hx hb dX5_splits_82 ?_
  obtain ⟨x4_1, ex4_1, hf⟩ := lt1_s hf
  refine x_top (w := .long x4_1) (by rw [ex4_1]) ?_
  refine lv_lstore (lv' := [(4, .long x4_1), (7, .long s0), (0, .ref ((hC hs) 3 0 0)), (1, .int x1), (2, .int x2), (3, .int x3), (6, .int x6)]) hx hb dX5_splits_83 hl (by decide) rfl (fun ls hl => ?_)
  refine lv_iload hx hb dX5_splits_85 (lv_at hl 6 rfl) ?_
  refine lv_aload_n hx hb dX5_splits_87 rfl (lv_at hl 2 rfl) ?_
  refine x_gI X K O 5 rfl LC_3 rfl rfl in_X5 (by decide) q348 dX5_splits_88 ?_
  refine lv_icmp_lt (tgt := 106) hx hb dX5_splits_91 (by decide) (fun c_2 => ?_) (fun c_2 => ?_)
  · replace hf := if_t c_2 hf
    exact w_C_X5_splits_b106 X K hkb21 _ _ _ _ _ _ _ ls _ _ O (lv_sub hl [2, 3, 4, 5, 0, 6, 1] rfl) hf
  · replace hf := if_f c_2 hf
    refine lv_iload_n hx hb dX5_splits_94 rfl (lv_at hl 3 rfl) ?_
    refine lv_aload_n hx hb dX5_splits_95 rfl (lv_at hl 2 rfl) ?_
    refine x_gI X K O 4 rfl LC_3 rfl rfl in_X5 (by decide) q347 dX5_splits_96 ?_
    refine lv_icmp_lt (tgt := 106) hx hb dX5_splits_99 (by decide) (fun c_3 => ?_) (fun c_3 => ?_)
    · replace hf := if_t c_3 hf
      exact w_C_X5_splits_b106 X K hkb21 _ _ _ _ _ _ _ ls _ _ O (lv_sub hl [2, 3, 4, 5, 0, 6, 1] rfl) hf
    · replace hf := if_f c_3 hf
      refine lv_iconst (v := 1) hx hb dX5_splits_102 (by decide) ?_
      refine lv_goto (tgt := 107) hx hb dX5_splits_103 (by decide) ?_
      exact w_C_X5_splits_b107 X K hkb21 _ _ _ _ _ _ _ _ ls _ _ O (lv_sub hl [2, 3, 4, 5, 0, 6, 1] rfl) hf
def C_X5_splits_b21 (Δ : DT) : Nat → ST → Int32 → Int32 → Int32 → Int64 → Int32 → Option (ST)
  | 0, _, _, _, _, _, _ => none
  | n + 1, σ, x1, x2, x3, x4, x6 =>
    (if x3 < x6 then some σ else (if x6 = x3 then C_X5_splits_b76 Δ (C_X5_splits_b21 Δ n) σ x1 x2 x3 x4 x6 x4 else ck ((okC Δ) 14 (gR σ 3 0 0 0) 0) (ck (okI x1 9) (ck (okI x2 9) (ck (okI (10 + x6) 23) (bn2 (C_X1_weights Δ 0 σ) (fun σ_7 r_8 => ck (decide (¬ (r_8.toInt64) = 0)) (C_X5_splits_b76 Δ (C_X5_splits_b21 Δ n) σ_7 x1 x2 x3 x4 x6 (((gL σ 15 (gR σ 3 0 0 0) (Int32.toNatClampNeg x1) (Int32.toNatClampNeg x2)) * (Int32.toInt64 (gI σ 4 0 0 (Int32.toNatClampNeg (10 + x6))))) / (r_8.toInt64))))))))))
theorem w_C_X5_splits_b21 {Δ : DT} (X : FX p m c meth s args RX5 cX5_splits 11 none) (K : XK D d A s) {z : ST} : ∀ (n : Nat) (σ : ST) (x1 : Int32) (x2 : Int32) (x3 : Int32) (x4 : Int64) (x6 : Int32) (ls : Array Slot) (H : Heap) (locs : List Loc), XH D A s.heap (hC hs) (xct (LC Δ) (okC Δ) (hC hs) d σ) H locs → lv_has ls 11 [(0, .ref ((hC hs) 3 0 0)), (1, .int x1), (2, .int x2), (3, .int x3), (4, .long x4), (6, .int x6)] → C_X5_splits_b21 Δ n σ x1 x2 x3 x4 x6 = some z → W p l e (rmD 2 0 0) s m args below meth c H locs 0 0 (MQ below (Qv D (pu z) (cw (hC hs) (LC Δ) (okC Δ) d) A) args s 0 0 A) (F0 m 21 ls []) := by
  have hx := X.1.1; have hb := X.1.2.1
  intro n
  induction n with
  | zero =>
    intro σ x1 x2 x3 x4 x6 ls H locs O hl hf
    exact absurd hf (fun q => by cases q)
  | succ n ih =>
    intro σ x1 x2 x3 x4 x6 ls H locs O hl hf
    rw [C_X5_splits_b21] at hf
    refine lv_iload hx hb dX5_splits_21 (lv_at hl 5 rfl) ?_
    refine lv_iload_n hx hb dX5_splits_23 rfl (lv_at hl 3 rfl) ?_
    refine lv_icmp_gt (tgt := 226) hx hb dX5_splits_24 (by decide) (fun c_1 => ?_) (fun c_1 => ?_)
    · replace hf := if_t c_1 hf
      exact x_vret X O rfl _ (Option.some.inj hf).symm rfl dX5_splits_226
    · replace hf := if_f c_1 hf
      refine lv_iload hx hb dX5_splits_27 (lv_at hl 5 rfl) ?_
      refine lv_iload_n hx hb dX5_splits_29 rfl (lv_at hl 3 rfl) ?_
      refine lv_icmp_ne (tgt := 38) hx hb dX5_splits_30 (by decide) (fun c_2 => ?_) (fun c_2 => ?_)
      · replace hf := if_f c_2 hf
        refine lv_aload_n hx hb dX5_splits_38 rfl (lv_at hl 0 rfl) ?_
        obtain ⟨c_3, hf⟩ := ck_s hf
        refine x_gR X K O 0 rfl LC_3 rfl rfl in_X5 (by decide) q342 dX5_splits_39 ?_
        refine lv_iload_n hx hb dX5_splits_42 rfl (lv_at hl 1 rfl) ?_
        obtain ⟨c_4, hf⟩ := ck_s hf
        refine x_ald X K O 5 c_3 LC_14 (by decide) rfl rfl c_4 (j := (Int32.toNatClampNeg x1)) rfl dX5_splits_43 ?_
        refine lv_iload_n hx hb dX5_splits_44 rfl (lv_at hl 2 rfl) ?_
        obtain ⟨c_5, hf⟩ := ck_s hf
        refine x_lld X K O (oks_b c_3 (okI_lt c_4)) LC_15 c_5 (j := (Int32.toNatClampNeg x2)) rfl dX5_splits_45 ?_
        refine lv_aload_n hx hb dX5_splits_46 rfl (lv_at hl 0 rfl) ?_
        refine x_gF X K O 7 rfl LC_3 rfl rfl in_X5 (by decide) q350 dX5_splits_47 ?_
        refine x_gFN X K O 6 rfl LC_0 rfl rfl in_X0 (by decide) q380 dX5_splits_50 ?_
        refine x_gFN X K O 2 rfl LC_1 rfl rfl in_X1 (by decide) q299 dX5_splits_53 ?_
        refine lv_bipush (v := 10) hx hb dX5_splits_56 (by decide) ?_
        refine lv_iload hx hb dX5_splits_58 (lv_at hl 5 rfl) ?_
        refine lv_iadd hx hb dX5_splits_60 ?_
        obtain ⟨c_6, hf⟩ := ck_s hf
        refine x_ild X K O rfl LC_4 c_6 (j := (Int32.toNatClampNeg (10 + x6))) rfl dX5_splits_61 ?_
        refine lv_i2l (v := (Int32.toInt64 (gI σ 4 0 0 (Int32.toNatClampNeg (10 + x6))))) hx hb dX5_splits_62 rfl ?_
        refine lv_lmul hx hb dX5_splits_63 ?_
        refine lv_aload_n hx hb dX5_splits_64 rfl (lv_at hl 0 rfl) ?_
        refine x_gF X K O 7 rfl LC_3 rfl rfl in_X5 (by decide) q350 dX5_splits_65 ?_
        refine x_gFN X K O 6 rfl LC_0 rfl rfl in_X0 (by decide) q380 dX5_splits_68 ?_
        obtain ⟨σ_7, r_8, hg, hf⟩ := bn2_s hf
        refine x_calli (x_runV (As := []) (rest := [.long ((gL σ 15 (gR σ 3 0 0 0) (Int32.toNatClampNeg x1) (Int32.toNatClampNeg x2)) * (Int32.toInt64 (gI σ 4 0 0 (Int32.toNatClampNeg (10 + x6)))))]) X K O (xct_obj rfl LC_1) rfl (m_C_X1_weights rfl hg) EN_b EN_h (lw_V q1010 q925 q926 q119 q927) 0 rfl hl.1 (Nat.le_of_ble_eq_true rfl) hdV_X1_weights ⟨by decide, by decide⟩ ⟨Nat.le_refl _, Nat.le_refl _⟩ dX5_splits_71) (fun r u H locs hp O _ => ?_)
        cases hp
        have O : XH D A s.heap (hC hs) (xct (LC Δ) (okC Δ) (hC hs) d σ_7) H locs := O
        refine lv_i2l (v := (r_8.toInt64)) hx hb dX5_splits_74 rfl ?_
        obtain ⟨c_9, hf⟩ := ck_s hf
        refine lv_ldiv hx hb dX5_splits_75 (of_decide_eq_true c_9) ?_
        exact w_C_X5_splits_b76 X K ih _ _ _ _ _ _ _ ls _ _ O (lv_sub hl [0, 1, 2, 3, 4, 5] rfl) hf
      · replace hf := if_t c_2 hf
        refine lv_lload hx hb dX5_splits_33 (lv_at hl 4 rfl) ?_
        refine lv_goto (tgt := 76) hx hb dX5_splits_35 (by decide) ?_
        exact w_C_X5_splits_b76 X K ih _ _ _ _ _ _ _ ls _ _ O (lv_sub hl [0, 1, 2, 3, 4, 5] rfl) hf
def C_X5_splits (Δ : DT) (σ : ST) (p1 : Int32) (p2 : Int32) : Option (ST) :=
  bn2 (C_X0_greatestSize Δ σ) (fun σ_1 r_2 => ck ((okC Δ) 14 (gR σ_1 3 0 0 0) 0) (ck (okI p1 9) (ck (okI p2 9) (lt1 (gL σ_1 15 (gR σ_1 3 0 0 0) (Int32.toNatClampNeg p1) (Int32.toNatClampNeg p2)) (fun x4_6 => C_X5_splits_b21 Δ FUEL σ_1 p1 p2 r_2 x4_6 1)))))
theorem m_C_X5_splits {l : Launch} {D : va_G} {d : Nat → ClassId} {hs : IX} {Δ : DT} {p1 : Int32} {p2 : Int32} {σ : ST} {z : ST} (hf : C_X5_splits Δ σ p1 p2 = some z) : XM l D d EN yX5_splits cX5_splits 11 none 2 0 0 [.ref ((hC hs) 3 0 0), .int p1, .int p2] (hC hs) (xct (LC Δ) (okC Δ) (hC hs) d σ) (Qv D (pu z) (cw (hC hs) (LC Δ) (okC Δ) d)) := by
  refine XM.of (by decide +kernel) (Nat.le_of_ble_eq_true rfl) ?_
  intro p e s m below meth c A ls X _ K _ O hl
  have hl : lv_has ls 11 [(0, .ref ((hC hs) 3 0 0)), (1, .int p1), (2, .int p2)] := hl
  have hx := X.1.1; have hb := X.1.2.1
  rw [C_X5_splits] at hf
  refine lv_aload_n hx hb dX5_splits_0 rfl (lv_at hl 0 rfl) ?_
  refine x_gF X K O 7 rfl LC_3 rfl rfl in_X5 (by decide) q350 dX5_splits_1 ?_
  obtain ⟨σ_1, r_2, hg, hf⟩ := bn2_s hf
  refine x_calli (x_runVN (As := []) (rest := []) X K O (xct_obj rfl LC_0) rfl (m_C_X0_greatestSize hg) EN_b EN_h q1009 q974 qs33 q111 q975 0 rfl hl.1 (Nat.le_of_ble_eq_true rfl) hdS_X0_greatestSize ⟨by decide, by decide⟩ ⟨Nat.le_refl _, Nat.le_refl _⟩ dX5_splits_4) (fun r u H locs hp O _ => ?_)
  cases hp
  have O : XH D A s.heap (hC hs) (xct (LC Δ) (okC Δ) (hC hs) d σ_1) H locs := O
  refine lv_istore_n (lv' := [(3, .int r_2), (0, .ref ((hC hs) 3 0 0)), (1, .int p1), (2, .int p2)]) hx hb dX5_splits_7 rfl hl (by decide) rfl (fun ls hl => ?_)
  refine lv_aload_n hx hb dX5_splits_8 rfl (lv_at hl 1 rfl) ?_
  obtain ⟨c_3, hf⟩ := ck_s hf
  refine x_gR X K O 0 rfl LC_3 rfl rfl in_X5 (by decide) q342 dX5_splits_9 ?_
  refine lv_iload_n hx hb dX5_splits_12 rfl (lv_at hl 2 rfl) ?_
  obtain ⟨c_4, hf⟩ := ck_s hf
  refine x_ald X K O 5 c_3 LC_14 (by decide) rfl rfl c_4 (j := (Int32.toNatClampNeg p1)) rfl dX5_splits_13 ?_
  refine lv_iload_n hx hb dX5_splits_14 rfl (lv_at hl 3 rfl) ?_
  obtain ⟨c_5, hf⟩ := ck_s hf
  refine x_lld X K O (oks_b c_3 (okI_lt c_4)) LC_15 c_5 (j := (Int32.toNatClampNeg p2)) rfl dX5_splits_15 ?_
  obtain ⟨x4_6, ex4_6, hf⟩ := lt1_s hf
  refine x_top (w := .long x4_6) (by rw [ex4_6]) ?_
  refine lv_lstore (lv' := [(4, .long x4_6), (3, .int r_2), (0, .ref ((hC hs) 3 0 0)), (1, .int p1), (2, .int p2)]) hx hb dX5_splits_16 hl (by decide) rfl (fun ls hl => ?_)
  refine lv_iconst (v := 1) hx hb dX5_splits_18 (by decide) ?_
  refine lv_istore (lv' := [(6, .int 1), (4, .long x4_6), (3, .int r_2), (0, .ref ((hC hs) 3 0 0)), (1, .int p1), (2, .int p2)]) hx hb dX5_splits_19 hl (by decide) rfl (fun ls hl => ?_)
  exact w_C_X5_splits_b21 X K _ _ _ _ _ _ _ ls _ _ O (lv_sub hl [3, 4, 5, 2, 1, 0] rfl) hf
theorem hdV_X5_splits : yX5_splits.cls = RX5 ∧ (yX5_splits.cls ≠ "java/lang/invoke/MethodHandle" ∧ yX5_splits.cls ≠ "java/lang/invoke/VarHandle" ∧ (parseMethodDescriptor yX5_splits.desc).map (fun d => d.parameters.length) = some 2) := by decide +kernel
def C_X5_once_b118 (Δ : DT) : Nat → ST → Int32 → Option (ST)
  | 0, _, _ => none
  | n + 1, σ, x2 =>
    (if 2 ≤ x2 then some σ else ck (okI x2 2) (ck (okI x2 2) (bn2 (C_J4_floorDiv Δ σ (gL σ 13 0 0 (Int32.toNatClampNeg x2)) 1000000) (fun σ_4 r_5 => ck (okI x2 2) (lt1 (sL σ_4 13 1 0 (Int32.toNatClampNeg x2) ((gL σ 13 1 0 (Int32.toNatClampNeg x2)) + r_5)) (fun σ_7 => lt1 (x2 + 1) (fun x2_8 => (C_X5_once_b118 Δ n) σ_7 x2_8)))))))
theorem w_C_X5_once_b118 {Δ : DT} (X : FX p m c meth s args RX5 cX5_once 3 none) (K : XK D d A s) {z : ST} : ∀ (n : Nat) (σ : ST) (x2 : Int32) (ls : Array Slot) (H : Heap) (locs : List Loc), XH D A s.heap (hC hs) (xct (LC Δ) (okC Δ) (hC hs) d σ) H locs → lv_has ls 3 [(0, .ref ((hC hs) 3 0 0)), (2, .int x2)] → C_X5_once_b118 Δ n σ x2 = some z → W p l e (rmD 3 0 0) s m args below meth c H locs 0 0 (MQ below (Qv D (pu z) (cw (hC hs) (LC Δ) (okC Δ) d) A) args s 0 0 A) (F0 m 118 ls []) := by
  have hx := X.1.1; have hb := X.1.2.1
  intro n
  induction n with
  | zero =>
    intro σ x2 ls H locs O hl hf
    exact absurd hf (fun q => by cases q)
  | succ n ih =>
    intro σ x2 ls H locs O hl hf
    rw [C_X5_once_b118] at hf
    refine lv_iload_n hx hb dX5_once_118 rfl (lv_at hl 1 rfl) ?_
    refine lv_iconst (v := 2) hx hb dX5_once_119 (by decide) ?_
    refine lv_icmp_ge (tgt := 150) hx hb dX5_once_120 (by decide) (fun c_1 => ?_) (fun c_1 => ?_)
    · replace hf := if_t c_1 hf
      exact x_vret X O rfl _ (Option.some.inj hf).symm rfl dX5_once_150
    · replace hf := if_f c_1 hf
      refine lv_aload_n hx hb dX5_once_123 rfl (lv_at hl 0 rfl) ?_
      refine x_gF X K O 3 rfl LC_3 rfl rfl in_X5 (by decide) q345 dX5_once_124 ?_
      refine lv_iload_n hx hb dX5_once_127 rfl (lv_at hl 1 rfl) ?_
      refine lv_dup2_11 hx hb dX5_once_128 rfl rfl ?_
      obtain ⟨c_2, hf⟩ := ck_s hf
      refine x_lld X K O rfl LC_13 c_2 (j := (Int32.toNatClampNeg x2)) rfl dX5_once_129 ?_
      refine lv_aload_n hx hb dX5_once_130 rfl (lv_at hl 0 rfl) ?_
      refine x_gF X K O 2 rfl LC_3 rfl rfl in_X5 (by decide) q344 dX5_once_131 ?_
      refine lv_iload_n hx hb dX5_once_134 rfl (lv_at hl 1 rfl) ?_
      obtain ⟨c_3, hf⟩ := ck_s hf
      refine x_lld X K O rfl LC_13 c_3 (j := (Int32.toNatClampNeg x2)) rfl dX5_once_135 ?_
      refine lv_ldc2 (v := 1000000) hx hb X.1.2.2.2.1 (X.1.2.2.2.2 _ q1017) dX5_once_136 ?_
      obtain ⟨σ_4, r_5, hg, hf⟩ := bn2_s hf
      refine x_calll (x_runS (As := [.long (gL σ 13 0 0 (Int32.toNatClampNeg x2)), .long 1000000]) (rest := [.long (gL σ 13 1 0 (Int32.toNatClampNeg x2)), .int x2, .ref ((hC hs) 13 1 0)]) X K O (m_C_J4_floorDiv hg) EN_b EN_h (lw_S q1018 q982 q116 q983) 2 rfl hl.1 (Nat.le_of_ble_eq_true rfl) hdS_J4_floorDiv ⟨by decide, by decide⟩ ⟨Nat.le_refl _, Nat.le_refl _⟩ dX5_once_139) (fun r u H locs hp O _ => ?_)
      cases hp
      have O : XH D A s.heap (hC hs) (xct (LC Δ) (okC Δ) (hC hs) d σ_4) H locs := O
      refine lv_ladd hx hb dX5_once_142 ?_
      obtain ⟨c_6, hf⟩ := ck_s hf
      obtain ⟨σ_7, eσ_7, hf⟩ := lt1_s hf
      refine x_lst X K O rfl LC_13 c_6 (j := (Int32.toNatClampNeg x2)) rfl dX5_once_143 (fun H locs O => ?_)
      rw [← eσ_7] at O
      obtain ⟨x2_8, ex2_8, hf⟩ := lt1_s hf
      refine lv_iinc (v := x2_8) (lv' := [(2, .int x2_8), (0, .ref ((hC hs) 3 0 0))]) hx hb dX5_once_144 hl (k := 1) rfl (by rw [ex2_8]; rfl) (by decide) rfl (fun ls hl => ?_)
      refine lv_goto (tgt := 118) hx hb dX5_once_147 (by decide) ?_
      exact ih _ _ ls _ _ O (lv_sub hl [1, 0] rfl) hf
def C_X5_once_b86 (Δ : DT) (kb53 : ST → Int32 → Option (ST)) (kb61 : ST → Int32 → Int32 → Option (ST)) (σ : ST) (x1 : Int32) (x2 : Int32) : Option (ST) :=
  lt1 (x2 + 1) (fun x2_1 => kb61 σ x1 x2_1)
theorem w_C_X5_once_b86 {Δ : DT} (X : FX p m c meth s args RX5 cX5_once 3 none) (K : XK D d A s) {z : ST} {kb53 : ST → Int32 → Option (ST)} (hkb53 : ∀ (σ : ST) (x1 : Int32) (ls : Array Slot) (H : Heap) (locs : List Loc), XH D A s.heap (hC hs) (xct (LC Δ) (okC Δ) (hC hs) d σ) H locs → lv_has ls 3 [(0, .ref ((hC hs) 3 0 0)), (1, .int x1)] → kb53 σ x1 = some z → W p l e (rmD 3 0 0) s m args below meth c H locs 0 0 (MQ below (Qv D (pu z) (cw (hC hs) (LC Δ) (okC Δ) d) A) args s 0 0 A) (F0 m 53 ls [])) {kb61 : ST → Int32 → Int32 → Option (ST)} (hkb61 : ∀ (σ : ST) (x1 : Int32) (x2 : Int32) (ls : Array Slot) (H : Heap) (locs : List Loc), XH D A s.heap (hC hs) (xct (LC Δ) (okC Δ) (hC hs) d σ) H locs → lv_has ls 3 [(0, .ref ((hC hs) 3 0 0)), (1, .int x1), (2, .int x2)] → kb61 σ x1 x2 = some z → W p l e (rmD 3 0 0) s m args below meth c H locs 0 0 (MQ below (Qv D (pu z) (cw (hC hs) (LC Δ) (okC Δ) d) A) args s 0 0 A) (F0 m 61 ls [])) (σ : ST) (x1 : Int32) (x2 : Int32) (ls : Array Slot) (H : Heap) (locs : List Loc) (O : XH D A s.heap (hC hs) (xct (LC Δ) (okC Δ) (hC hs) d σ) H locs) (hl : lv_has ls 3 [(0, .ref ((hC hs) 3 0 0)), (1, .int x1), (2, .int x2)]) (hf : C_X5_once_b86 Δ kb53 kb61 σ x1 x2 = some z) : W p l e (rmD 3 0 0) s m args below meth c H locs 0 0 (MQ below (Qv D (pu z) (cw (hC hs) (LC Δ) (okC Δ) d) A) args s 0 0 A) (F0 m 86 ls []) := by
  have hx := X.1.1; have hb := X.1.2.1
  rw [C_X5_once_b86] at hf
  obtain ⟨x2_1, ex2_1, hf⟩ := lt1_s hf
  refine lv_iinc (v := x2_1) (lv' := [(2, .int x2_1), (0, .ref ((hC hs) 3 0 0)), (1, .int x1)]) hx hb dX5_once_86 hl (k := 2) rfl (by rw [ex2_1]; rfl) (by decide) rfl (fun ls hl => ?_)
  refine lv_goto (tgt := 61) hx hb dX5_once_89 (by decide) ?_
  exact hkb61 _ _ _ ls _ _ O (lv_sub hl [1, 2, 0] rfl) hf
def C_X5_once_b61 (Δ : DT) (kb53 : ST → Int32 → Option (ST)) : Nat → ST → Int32 → Int32 → Option (ST)
  | 0, _, _, _ => none
  | n + 1, σ, x1, x2 =>
    (if 8 < x2 then lt1 (x1 + 1) (fun x1_2 => kb53 σ x1_2) else ck ((okC Δ) 14 (gR σ 3 0 0 0) 0) (ck (okI x1 9) (ck (okI x2 9) ((if (lg_cmp (gL σ 15 (gR σ 3 0 0 0) (Int32.toNatClampNeg x1) (Int32.toNatClampNeg x2)) 0) ≤ 0 then C_X5_once_b86 Δ kb53 (C_X5_once_b61 Δ kb53 n) σ x1 x2 else bn1 (C_X5_splits Δ σ x1 x2) (fun σ_7 => C_X5_once_b86 Δ kb53 (C_X5_once_b61 Δ kb53 n) σ_7 x1 x2))))))
theorem w_C_X5_once_b61 {Δ : DT} (X : FX p m c meth s args RX5 cX5_once 3 none) (K : XK D d A s) {z : ST} {kb53 : ST → Int32 → Option (ST)} (hkb53 : ∀ (σ : ST) (x1 : Int32) (ls : Array Slot) (H : Heap) (locs : List Loc), XH D A s.heap (hC hs) (xct (LC Δ) (okC Δ) (hC hs) d σ) H locs → lv_has ls 3 [(0, .ref ((hC hs) 3 0 0)), (1, .int x1)] → kb53 σ x1 = some z → W p l e (rmD 3 0 0) s m args below meth c H locs 0 0 (MQ below (Qv D (pu z) (cw (hC hs) (LC Δ) (okC Δ) d) A) args s 0 0 A) (F0 m 53 ls [])) : ∀ (n : Nat) (σ : ST) (x1 : Int32) (x2 : Int32) (ls : Array Slot) (H : Heap) (locs : List Loc), XH D A s.heap (hC hs) (xct (LC Δ) (okC Δ) (hC hs) d σ) H locs → lv_has ls 3 [(0, .ref ((hC hs) 3 0 0)), (1, .int x1), (2, .int x2)] → C_X5_once_b61 Δ kb53 n σ x1 x2 = some z → W p l e (rmD 3 0 0) s m args below meth c H locs 0 0 (MQ below (Qv D (pu z) (cw (hC hs) (LC Δ) (okC Δ) d) A) args s 0 0 A) (F0 m 61 ls []) := by
  have hx := X.1.1; have hb := X.1.2.1
  intro n
  induction n with
  | zero =>
    intro σ x1 x2 ls H locs O hl hf
    exact absurd hf (fun q => by cases q)
  | succ n ih =>
    intro σ x1 x2 ls H locs O hl hf
    rw [C_X5_once_b61] at hf
    refine lv_iload_n hx hb dX5_once_61 rfl (lv_at hl 2 rfl) ?_
    refine lv_bipush (v := 8) hx hb dX5_once_62 (by decide) ?_
    refine lv_icmp_gt (tgt := 92) hx hb dX5_once_64 (by decide) (fun c_1 => ?_) (fun c_1 => ?_)
    · replace hf := if_t c_1 hf
      obtain ⟨x1_2, ex1_2, hf⟩ := lt1_s hf
      refine lv_iinc (v := x1_2) (lv' := [(1, .int x1_2), (0, .ref ((hC hs) 3 0 0)), (2, .int x2)]) hx hb dX5_once_92 hl (k := 1) rfl (by rw [ex1_2]; rfl) (by decide) rfl (fun ls hl => ?_)
      refine lv_goto (tgt := 53) hx hb dX5_once_95 (by decide) ?_
      exact hkb53 _ _ ls _ _ O (lv_sub hl [1, 0] rfl) hf
    · replace hf := if_f c_1 hf
      refine lv_aload_n hx hb dX5_once_67 rfl (lv_at hl 0 rfl) ?_
      obtain ⟨c_3, hf⟩ := ck_s hf
      refine x_gR X K O 0 rfl LC_3 rfl rfl in_X5 (by decide) q342 dX5_once_68 ?_
      refine lv_iload_n hx hb dX5_once_71 rfl (lv_at hl 1 rfl) ?_
      obtain ⟨c_4, hf⟩ := ck_s hf
      refine x_ald X K O 5 c_3 LC_14 (by decide) rfl rfl c_4 (j := (Int32.toNatClampNeg x1)) rfl dX5_once_72 ?_
      refine lv_iload_n hx hb dX5_once_73 rfl (lv_at hl 2 rfl) ?_
      obtain ⟨c_5, hf⟩ := ck_s hf
      refine x_lld X K O (oks_b c_3 (okI_lt c_4)) LC_15 c_5 (j := (Int32.toNatClampNeg x2)) rfl dX5_once_74 ?_
      refine lv_lconst (v := 0) hx hb dX5_once_75 (by decide) ?_
      refine W.lcmp hx hb dX5_once_76 ?_
      refine lv_if_le (tgt := 86) hx hb dX5_once_77 (by decide) (fun c_6 => ?_) (fun c_6 => ?_)
      · replace hf := if_t c_6 hf
        exact w_C_X5_once_b86 X K hkb53 ih _ _ _ ls _ _ O (lv_sub hl [0, 1, 2] rfl) hf
      · replace hf := if_f c_6 hf
        refine lv_aload_n hx hb dX5_once_80 rfl (lv_at hl 0 rfl) ?_
        refine lv_iload_n hx hb dX5_once_81 rfl (lv_at hl 1 rfl) ?_
        refine lv_iload_n hx hb dX5_once_82 rfl (lv_at hl 2 rfl) ?_
        obtain ⟨σ_7, hg, hf⟩ := bn1_s hf
        refine x_callv (x_runV (As := [.int x1, .int x2]) (rest := []) X K O (xct_obj rfl LC_3) rfl (m_C_X5_splits hg) EN_b EN_h (lw_V q1005 q1007 qs37 q123 q1008) 2 rfl hl.1 (Nat.le_of_ble_eq_true rfl) hdV_X5_splits ⟨by decide, by decide⟩ ⟨Nat.le_refl _, Nat.le_refl _⟩ dX5_once_83) (fun u H locs hp O _ => ?_)
        cases hp
        have O : XH D A s.heap (hC hs) (xct (LC Δ) (okC Δ) (hC hs) d σ_7) H locs := O
        exact w_C_X5_once_b86 X K hkb53 ih _ _ _ ls _ _ O (lv_sub hl [0, 1, 2] rfl) hf
def C_X5_once_b53 (Δ : DT) : Nat → ST → Int32 → Option (ST)
  | 0, _, _ => none
  | n + 1, σ, x1 =>
    (if 8 < x1 then ck ((okC Δ) 14 (gR σ 3 0 0 0) 0) (ck ((okC Δ) 14 (gR σ 3 0 0 1) 0) (lt1 (sR σ 3 0 0 0 (gR σ 3 0 0 1)) (fun σ_4 => lt1 (sR σ_4 3 0 0 1 (gR σ 3 0 0 0)) (fun σ_5 => C_X5_once_b118 Δ FUEL σ_5 0)))) else C_X5_once_b61 Δ (C_X5_once_b53 Δ n) FUEL σ x1 0)
theorem w_C_X5_once_b53 {Δ : DT} (X : FX p m c meth s args RX5 cX5_once 3 none) (K : XK D d A s) {z : ST} : ∀ (n : Nat) (σ : ST) (x1 : Int32) (ls : Array Slot) (H : Heap) (locs : List Loc), XH D A s.heap (hC hs) (xct (LC Δ) (okC Δ) (hC hs) d σ) H locs → lv_has ls 3 [(0, .ref ((hC hs) 3 0 0)), (1, .int x1)] → C_X5_once_b53 Δ n σ x1 = some z → W p l e (rmD 3 0 0) s m args below meth c H locs 0 0 (MQ below (Qv D (pu z) (cw (hC hs) (LC Δ) (okC Δ) d) A) args s 0 0 A) (F0 m 53 ls []) := by
  have hx := X.1.1; have hb := X.1.2.1
  intro n
  induction n with
  | zero =>
    intro σ x1 ls H locs O hl hf
    exact absurd hf (fun q => by cases q)
  | succ n ih =>
    intro σ x1 ls H locs O hl hf
    rw [C_X5_once_b53] at hf
    refine lv_iload_n hx hb dX5_once_53 rfl (lv_at hl 1 rfl) ?_
    refine lv_bipush (v := 8) hx hb dX5_once_54 (by decide) ?_
    refine lv_icmp_gt (tgt := 98) hx hb dX5_once_56 (by decide) (fun c_1 => ?_) (fun c_1 => ?_)
    · replace hf := if_t c_1 hf
      refine lv_aload_n hx hb dX5_once_98 rfl (lv_at hl 0 rfl) ?_
      obtain ⟨c_2, hf⟩ := ck_s hf
      refine x_gR X K O 0 rfl LC_3 rfl rfl in_X5 (by decide) q342 dX5_once_99 ?_
      refine lv_astore_n (lv' := [(1, .ref ((hC hs) 14 (gR σ 3 0 0 0) 0)), (0, .ref ((hC hs) 3 0 0))]) hx hb dX5_once_102 rfl hl (by decide) rfl (fun ls hl => ?_)
      refine lv_aload_n hx hb dX5_once_103 rfl (lv_at hl 1 rfl) ?_
      refine lv_aload_n hx hb dX5_once_104 rfl (lv_at hl 1 rfl) ?_
      obtain ⟨c_3, hf⟩ := ck_s hf
      refine x_gR X K O 1 rfl LC_3 rfl rfl in_X5 (by decide) q343 dX5_once_105 ?_
      obtain ⟨σ_4, eσ_4, hf⟩ := lt1_s hf
      refine x_pR X K O 0 rfl LC_3 rfl rfl in_X5 tyX5_ok nmX5 (by decide) q342 rfl rfl rfl dX5_once_108 (fun H locs O => ?_)
      rw [← eσ_4] at O
      refine lv_aload_n hx hb dX5_once_111 rfl (lv_at hl 1 rfl) ?_
      refine lv_aload_n hx hb dX5_once_112 rfl (lv_at hl 0 rfl) ?_
      obtain ⟨σ_5, eσ_5, hf⟩ := lt1_s hf
      refine x_pR X K O 1 rfl LC_3 rfl rfl in_X5 tyX5_ok nmX5 (by decide) q343 rfl rfl rfl dX5_once_113 (fun H locs O => ?_)
      rw [← eσ_5] at O
      refine lv_iconst (v := 0) hx hb dX5_once_116 (by decide) ?_
      refine lv_istore_n (lv' := [(2, .int 0), (1, .ref ((hC hs) 14 (gR σ 3 0 0 0) 0)), (0, .ref ((hC hs) 3 0 0))]) hx hb dX5_once_117 rfl hl (by decide) rfl (fun ls hl => ?_)
      exact w_C_X5_once_b118 X K _ _ _ ls _ _ O (lv_sub hl [2, 0] rfl) hf
    · replace hf := if_f c_1 hf
      refine lv_iconst (v := 0) hx hb dX5_once_59 (by decide) ?_
      refine lv_istore_n (lv' := [(2, .int 0), (0, .ref ((hC hs) 3 0 0)), (1, .int x1)]) hx hb dX5_once_60 rfl hl (by decide) rfl (fun ls hl => ?_)
      exact w_C_X5_once_b61 X K ih _ _ _ _ ls _ _ O (lv_sub hl [1, 2, 0] rfl) hf
def C_X5_once_b24 (Δ : DT) (kb16 : ST → Int32 → Option (ST)) : Nat → ST → Int32 → Int32 → Option (ST)
  | 0, _, _, _ => none
  | n + 1, σ, x1, x2 =>
    (if 8 < x2 then lt1 (x1 + 1) (fun x1_2 => kb16 σ x1_2) else ck ((okC Δ) 14 (gR σ 3 0 0 1) 0) (ck (okI x1 9) (ck (okI x2 9) (lt1 (sL σ 15 (gR σ 3 0 0 1) (Int32.toNatClampNeg x1) (Int32.toNatClampNeg x2) 0) (fun σ_6 => lt1 (x2 + 1) (fun x2_7 => (C_X5_once_b24 Δ kb16 n) σ_6 x1 x2_7))))))
theorem w_C_X5_once_b24 {Δ : DT} (X : FX p m c meth s args RX5 cX5_once 3 none) (K : XK D d A s) {z : ST} {kb16 : ST → Int32 → Option (ST)} (hkb16 : ∀ (σ : ST) (x1 : Int32) (ls : Array Slot) (H : Heap) (locs : List Loc), XH D A s.heap (hC hs) (xct (LC Δ) (okC Δ) (hC hs) d σ) H locs → lv_has ls 3 [(0, .ref ((hC hs) 3 0 0)), (1, .int x1)] → kb16 σ x1 = some z → W p l e (rmD 3 0 0) s m args below meth c H locs 0 0 (MQ below (Qv D (pu z) (cw (hC hs) (LC Δ) (okC Δ) d) A) args s 0 0 A) (F0 m 16 ls [])) : ∀ (n : Nat) (σ : ST) (x1 : Int32) (x2 : Int32) (ls : Array Slot) (H : Heap) (locs : List Loc), XH D A s.heap (hC hs) (xct (LC Δ) (okC Δ) (hC hs) d σ) H locs → lv_has ls 3 [(0, .ref ((hC hs) 3 0 0)), (1, .int x1), (2, .int x2)] → C_X5_once_b24 Δ kb16 n σ x1 x2 = some z → W p l e (rmD 3 0 0) s m args below meth c H locs 0 0 (MQ below (Qv D (pu z) (cw (hC hs) (LC Δ) (okC Δ) d) A) args s 0 0 A) (F0 m 24 ls []) := by
  have hx := X.1.1; have hb := X.1.2.1
  intro n
  induction n with
  | zero =>
    intro σ x1 x2 ls H locs O hl hf
    exact absurd hf (fun q => by cases q)
  | succ n ih =>
    intro σ x1 x2 ls H locs O hl hf
    rw [C_X5_once_b24] at hf
    refine lv_iload_n hx hb dX5_once_24 rfl (lv_at hl 2 rfl) ?_
    refine lv_bipush (v := 8) hx hb dX5_once_25 (by decide) ?_
    refine lv_icmp_gt (tgt := 45) hx hb dX5_once_27 (by decide) (fun c_1 => ?_) (fun c_1 => ?_)
    · replace hf := if_t c_1 hf
      obtain ⟨x1_2, ex1_2, hf⟩ := lt1_s hf
      refine lv_iinc (v := x1_2) (lv' := [(1, .int x1_2), (0, .ref ((hC hs) 3 0 0)), (2, .int x2)]) hx hb dX5_once_45 hl (k := 1) rfl (by rw [ex1_2]; rfl) (by decide) rfl (fun ls hl => ?_)
      refine lv_goto (tgt := 16) hx hb dX5_once_48 (by decide) ?_
      exact hkb16 _ _ ls _ _ O (lv_sub hl [1, 0] rfl) hf
    · replace hf := if_f c_1 hf
      refine lv_aload_n hx hb dX5_once_30 rfl (lv_at hl 0 rfl) ?_
      obtain ⟨c_3, hf⟩ := ck_s hf
      refine x_gR X K O 1 rfl LC_3 rfl rfl in_X5 (by decide) q343 dX5_once_31 ?_
      refine lv_iload_n hx hb dX5_once_34 rfl (lv_at hl 1 rfl) ?_
      obtain ⟨c_4, hf⟩ := ck_s hf
      refine x_ald X K O 5 c_3 LC_14 (by decide) rfl rfl c_4 (j := (Int32.toNatClampNeg x1)) rfl dX5_once_35 ?_
      refine lv_iload_n hx hb dX5_once_36 rfl (lv_at hl 2 rfl) ?_
      refine lv_lconst (v := 0) hx hb dX5_once_37 (by decide) ?_
      obtain ⟨c_5, hf⟩ := ck_s hf
      obtain ⟨σ_6, eσ_6, hf⟩ := lt1_s hf
      refine x_lst X K O (oks_b c_3 (okI_lt c_4)) LC_15 c_5 (j := (Int32.toNatClampNeg x2)) rfl dX5_once_38 (fun H locs O => ?_)
      rw [← eσ_6] at O
      obtain ⟨x2_7, ex2_7, hf⟩ := lt1_s hf
      refine lv_iinc (v := x2_7) (lv' := [(2, .int x2_7), (0, .ref ((hC hs) 3 0 0)), (1, .int x1)]) hx hb dX5_once_39 hl (k := 2) rfl (by rw [ex2_7]; rfl) (by decide) rfl (fun ls hl => ?_)
      refine lv_goto (tgt := 24) hx hb dX5_once_42 (by decide) ?_
      exact ih _ _ _ ls _ _ O (lv_sub hl [1, 2, 0] rfl) hf
def C_X5_once_b16 (Δ : DT) : Nat → ST → Int32 → Option (ST)
  | 0, _, _ => none
  | n + 1, σ, x1 =>
    (if 8 < x1 then C_X5_once_b53 Δ FUEL σ 0 else C_X5_once_b24 Δ (C_X5_once_b16 Δ n) FUEL σ x1 0)
theorem w_C_X5_once_b16 {Δ : DT} (X : FX p m c meth s args RX5 cX5_once 3 none) (K : XK D d A s) {z : ST} : ∀ (n : Nat) (σ : ST) (x1 : Int32) (ls : Array Slot) (H : Heap) (locs : List Loc), XH D A s.heap (hC hs) (xct (LC Δ) (okC Δ) (hC hs) d σ) H locs → lv_has ls 3 [(0, .ref ((hC hs) 3 0 0)), (1, .int x1)] → C_X5_once_b16 Δ n σ x1 = some z → W p l e (rmD 3 0 0) s m args below meth c H locs 0 0 (MQ below (Qv D (pu z) (cw (hC hs) (LC Δ) (okC Δ) d) A) args s 0 0 A) (F0 m 16 ls []) := by
  have hx := X.1.1; have hb := X.1.2.1
  intro n
  induction n with
  | zero =>
    intro σ x1 ls H locs O hl hf
    exact absurd hf (fun q => by cases q)
  | succ n ih =>
    intro σ x1 ls H locs O hl hf
    rw [C_X5_once_b16] at hf
    refine lv_iload_n hx hb dX5_once_16 rfl (lv_at hl 1 rfl) ?_
    refine lv_bipush (v := 8) hx hb dX5_once_17 (by decide) ?_
    refine lv_icmp_gt (tgt := 51) hx hb dX5_once_19 (by decide) (fun c_1 => ?_) (fun c_1 => ?_)
    · replace hf := if_t c_1 hf
      refine lv_iconst (v := 0) hx hb dX5_once_51 (by decide) ?_
      refine lv_istore_n (lv' := [(1, .int 0), (0, .ref ((hC hs) 3 0 0))]) hx hb dX5_once_52 rfl hl (by decide) rfl (fun ls hl => ?_)
      exact w_C_X5_once_b53 X K _ _ _ ls _ _ O (lv_sub hl [1, 0] rfl) hf
    · replace hf := if_f c_1 hf
      refine lv_iconst (v := 0) hx hb dX5_once_22 (by decide) ?_
      refine lv_istore_n (lv' := [(2, .int 0), (0, .ref ((hC hs) 3 0 0)), (1, .int x1)]) hx hb dX5_once_23 rfl hl (by decide) rfl (fun ls hl => ?_)
      exact w_C_X5_once_b24 X K ih _ _ _ _ ls _ _ O (lv_sub hl [1, 2, 0] rfl) hf
def C_X5_once (Δ : DT) (σ : ST) : Option (ST) :=
  lt1 (sL σ 13 0 0 0 0) (fun σ_1 => lt1 (sL σ_1 13 0 0 1 0) (fun σ_2 => C_X5_once_b16 Δ FUEL σ_2 0))
theorem m_C_X5_once {l : Launch} {D : va_G} {d : Nat → ClassId} {hs : IX} {Δ : DT} {σ : ST} {z : ST} (hf : C_X5_once Δ σ = some z) : XM l D d EN yX5_once cX5_once 3 none 3 0 0 [.ref ((hC hs) 3 0 0)] (hC hs) (xct (LC Δ) (okC Δ) (hC hs) d σ) (Qv D (pu z) (cw (hC hs) (LC Δ) (okC Δ) d)) := by
  refine XM.of (by decide +kernel) (Nat.le_of_ble_eq_true rfl) ?_
  intro p e s m below meth c A ls X _ K _ O hl
  have hl : lv_has ls 3 [(0, .ref ((hC hs) 3 0 0))] := hl
  have hx := X.1.1; have hb := X.1.2.1
  rw [C_X5_once] at hf
  refine lv_aload_n hx hb dX5_once_0 rfl (lv_at hl 0 rfl) ?_
  refine x_gF X K O 2 rfl LC_3 rfl rfl in_X5 (by decide) q344 dX5_once_1 ?_
  refine lv_iconst (v := 0) hx hb dX5_once_4 (by decide) ?_
  refine lv_lconst (v := 0) hx hb dX5_once_5 (by decide) ?_
  obtain ⟨σ_1, eσ_1, hf⟩ := lt1_s hf
  refine x_lst X K O rfl LC_13 (by decide) (j := 0) rfl dX5_once_6 (fun H locs O => ?_)
  rw [← eσ_1] at O
  refine lv_aload_n hx hb dX5_once_7 rfl (lv_at hl 0 rfl) ?_
  refine x_gF X K O 2 rfl LC_3 rfl rfl in_X5 (by decide) q344 dX5_once_8 ?_
  refine lv_iconst (v := 1) hx hb dX5_once_11 (by decide) ?_
  refine lv_lconst (v := 0) hx hb dX5_once_12 (by decide) ?_
  obtain ⟨σ_2, eσ_2, hf⟩ := lt1_s hf
  refine x_lst X K O rfl LC_13 (by decide) (j := 1) rfl dX5_once_13 (fun H locs O => ?_)
  rw [← eσ_2] at O
  refine lv_iconst (v := 0) hx hb dX5_once_14 (by decide) ?_
  refine lv_istore_n (lv' := [(1, .int 0), (0, .ref ((hC hs) 3 0 0))]) hx hb dX5_once_15 rfl hl (by decide) rfl (fun ls hl => ?_)
  exact w_C_X5_once_b16 X K _ _ _ ls _ _ O (lv_sub hl [1, 0] rfl) hf
theorem hdV_X5_once : yX5_once.cls = RX5 ∧ (yX5_once.cls ≠ "java/lang/invoke/MethodHandle" ∧ yX5_once.cls ≠ "java/lang/invoke/VarHandle" ∧ (parseMethodDescriptor yX5_once.desc).map (fun d => d.parameters.length) = some 0) := by decide +kernel
def C_X5_leads_b96 (Δ : DT) : Nat → ST → Int32 → Int32 → Option (ST)
  | 0, _, _, _ => none
  | n + 1, σ, x1, x7 =>
    (if x1 ≤ x7 then some σ else bn1 (C_X5_once Δ σ) (fun σ_2 => lt1 (x7 + 1) (fun x7_3 => (C_X5_leads_b96 Δ n) σ_2 x1 x7_3)))
theorem w_C_X5_leads_b96 {Δ : DT} (X : FX p m c meth s args RX5 cX5_leads 9 none) (K : XK D d A s) {z : ST} : ∀ (n : Nat) (σ : ST) (x1 : Int32) (x7 : Int32) (ls : Array Slot) (H : Heap) (locs : List Loc), XH D A s.heap (hC hs) (xct (LC Δ) (okC Δ) (hC hs) d σ) H locs → lv_has ls 9 [(0, .ref ((hC hs) 3 0 0)), (1, .int x1), (7, .int x7)] → C_X5_leads_b96 Δ n σ x1 x7 = some z → W p l e (rmD 4 0 0) s m args below meth c H locs 0 0 (MQ below (Qv D (pu z) (cw (hC hs) (LC Δ) (okC Δ) d) A) args s 0 0 A) (F0 m 96 ls []) := by
  have hx := X.1.1; have hb := X.1.2.1
  intro n
  induction n with
  | zero =>
    intro σ x1 x7 ls H locs O hl hf
    exact absurd hf (fun q => by cases q)
  | succ n ih =>
    intro σ x1 x7 ls H locs O hl hf
    rw [C_X5_leads_b96] at hf
    refine lv_iload hx hb dX5_leads_96 (lv_at hl 2 rfl) ?_
    refine lv_iload_n hx hb dX5_leads_98 rfl (lv_at hl 1 rfl) ?_
    refine lv_icmp_ge (tgt := 112) hx hb dX5_leads_99 (by decide) (fun c_1 => ?_) (fun c_1 => ?_)
    · replace hf := if_t c_1 hf
      exact x_vret X O rfl _ (Option.some.inj hf).symm rfl dX5_leads_112
    · replace hf := if_f c_1 hf
      refine lv_aload_n hx hb dX5_leads_102 rfl (lv_at hl 0 rfl) ?_
      obtain ⟨σ_2, hg, hf⟩ := bn1_s hf
      refine x_callv (x_runV (As := []) (rest := []) X K O (xct_obj rfl LC_3) rfl (m_C_X5_once hg) EN_b EN_h (lw_V q1001 q1003 qs36 q123 q1004) 0 rfl hl.1 (Nat.le_of_ble_eq_true rfl) hdV_X5_once ⟨by decide, by decide⟩ ⟨Nat.le_refl _, Nat.le_refl _⟩ dX5_leads_103) (fun u H locs hp O _ => ?_)
      cases hp
      have O : XH D A s.heap (hC hs) (xct (LC Δ) (okC Δ) (hC hs) d σ_2) H locs := O
      obtain ⟨x7_3, ex7_3, hf⟩ := lt1_s hf
      refine lv_iinc (v := x7_3) (lv' := [(7, .int x7_3), (0, .ref ((hC hs) 3 0 0)), (1, .int x1)]) hx hb dX5_leads_106 hl (k := 2) rfl (by rw [ex7_3]; rfl) (by decide) rfl (fun ls hl => ?_)
      refine lv_goto (tgt := 96) hx hb dX5_leads_109 (by decide) ?_
      exact ih _ _ _ ls _ _ O (lv_sub hl [1, 2, 0] rfl) hf
def C_X5_leads_b66 (Δ : DT) (kb21 : ST → Int32 → Int32 → Int32 → Int32 → Option (ST)) (kb31 : ST → Int32 → Int32 → Int32 → Int32 → Int32 → Option (ST)) (σ : ST) (x1 : Int32) (x2 : Int32) (x3 : Int32) (x7 : Int32) (x8 : Int32) (s0a : Nat) (s0b : Nat) (s1 : Int32) (s2 : Int64) : Option (ST) :=
  ck (okI s1 9) (lt1 (sL σ 15 s0a s0b (Int32.toNatClampNeg s1) s2) (fun σ_2 => lt1 (x8 + 1) (fun x8_3 => kb31 σ_2 x1 x2 x3 x7 x8_3)))
theorem w_C_X5_leads_b66 {Δ : DT} (X : FX p m c meth s args RX5 cX5_leads 9 none) (K : XK D d A s) {z : ST} {kb21 : ST → Int32 → Int32 → Int32 → Int32 → Option (ST)} (hkb21 : ∀ (σ : ST) (x1 : Int32) (x2 : Int32) (x3 : Int32) (x7 : Int32) (ls : Array Slot) (H : Heap) (locs : List Loc), XH D A s.heap (hC hs) (xct (LC Δ) (okC Δ) (hC hs) d σ) H locs → lv_has ls 9 [(0, .ref ((hC hs) 3 0 0)), (1, .int x1), (2, .int x2), (3, .int x3), (7, .int x7)] → kb21 σ x1 x2 x3 x7 = some z → W p l e (rmD 4 0 0) s m args below meth c H locs 0 0 (MQ below (Qv D (pu z) (cw (hC hs) (LC Δ) (okC Δ) d) A) args s 0 0 A) (F0 m 21 ls [])) {kb31 : ST → Int32 → Int32 → Int32 → Int32 → Int32 → Option (ST)} (hkb31 : ∀ (σ : ST) (x1 : Int32) (x2 : Int32) (x3 : Int32) (x7 : Int32) (x8 : Int32) (ls : Array Slot) (H : Heap) (locs : List Loc), XH D A s.heap (hC hs) (xct (LC Δ) (okC Δ) (hC hs) d σ) H locs → lv_has ls 9 [(0, .ref ((hC hs) 3 0 0)), (1, .int x1), (2, .int x2), (3, .int x3), (7, .int x7), (8, .int x8)] → kb31 σ x1 x2 x3 x7 x8 = some z → W p l e (rmD 4 0 0) s m args below meth c H locs 0 0 (MQ below (Qv D (pu z) (cw (hC hs) (LC Δ) (okC Δ) d) A) args s 0 0 A) (F0 m 31 ls [])) (σ : ST) (x1 : Int32) (x2 : Int32) (x3 : Int32) (x7 : Int32) (x8 : Int32) (s0a : Nat) (s0b : Nat) (s1 : Int32) (s2 : Int64) (ks0 : (okC Δ) 15 s0a s0b = true) (ls : Array Slot) (H : Heap) (locs : List Loc) (O : XH D A s.heap (hC hs) (xct (LC Δ) (okC Δ) (hC hs) d σ) H locs) (hl : lv_has ls 9 [(0, .ref ((hC hs) 3 0 0)), (1, .int x1), (2, .int x2), (3, .int x3), (7, .int x7), (8, .int x8)]) (hf : C_X5_leads_b66 Δ kb21 kb31 σ x1 x2 x3 x7 x8 s0a s0b s1 s2 = some z) : W p l e (rmD 4 0 0) s m args below meth c H locs 0 0 (MQ below (Qv D (pu z) (cw (hC hs) (LC Δ) (okC Δ) d) A) args s 0 0 A) (F0 m 66 ls [.long s2, .int s1, .ref ((hC hs) 15 s0a s0b)]) := by
  have hx := X.1.1; have hb := X.1.2.1
  rw [C_X5_leads_b66] at hf
  obtain ⟨c_1, hf⟩ := ck_s hf
  obtain ⟨σ_2, eσ_2, hf⟩ := lt1_s hf
  refine x_lst X K O ks0 LC_15 c_1 (j := (Int32.toNatClampNeg s1)) rfl dX5_leads_66 (fun H locs O => ?_)
  rw [← eσ_2] at O
  obtain ⟨x8_3, ex8_3, hf⟩ := lt1_s hf
  refine lv_iinc (v := x8_3) (lv' := [(8, .int x8_3), (0, .ref ((hC hs) 3 0 0)), (1, .int x1), (2, .int x2), (3, .int x3), (7, .int x7)]) hx hb dX5_leads_67 hl (k := 5) rfl (by rw [ex8_3]; rfl) (by decide) rfl (fun ls hl => ?_)
  refine lv_goto (tgt := 31) hx hb dX5_leads_70 (by decide) ?_
  exact hkb31 _ _ _ _ _ _ ls _ _ O (lv_sub hl [1, 2, 3, 4, 5, 0] rfl) hf
def C_X5_leads_b65 (Δ : DT) (kb21 : ST → Int32 → Int32 → Int32 → Int32 → Option (ST)) (kb31 : ST → Int32 → Int32 → Int32 → Int32 → Int32 → Option (ST)) (σ : ST) (x1 : Int32) (x2 : Int32) (x3 : Int32) (x7 : Int32) (x8 : Int32) (s0a : Nat) (s0b : Nat) (s1 : Int32) : Option (ST) :=
  C_X5_leads_b66 Δ kb21 kb31 σ x1 x2 x3 x7 x8 s0a s0b s1 0
theorem w_C_X5_leads_b65 {Δ : DT} (X : FX p m c meth s args RX5 cX5_leads 9 none) (K : XK D d A s) {z : ST} {kb21 : ST → Int32 → Int32 → Int32 → Int32 → Option (ST)} (hkb21 : ∀ (σ : ST) (x1 : Int32) (x2 : Int32) (x3 : Int32) (x7 : Int32) (ls : Array Slot) (H : Heap) (locs : List Loc), XH D A s.heap (hC hs) (xct (LC Δ) (okC Δ) (hC hs) d σ) H locs → lv_has ls 9 [(0, .ref ((hC hs) 3 0 0)), (1, .int x1), (2, .int x2), (3, .int x3), (7, .int x7)] → kb21 σ x1 x2 x3 x7 = some z → W p l e (rmD 4 0 0) s m args below meth c H locs 0 0 (MQ below (Qv D (pu z) (cw (hC hs) (LC Δ) (okC Δ) d) A) args s 0 0 A) (F0 m 21 ls [])) {kb31 : ST → Int32 → Int32 → Int32 → Int32 → Int32 → Option (ST)} (hkb31 : ∀ (σ : ST) (x1 : Int32) (x2 : Int32) (x3 : Int32) (x7 : Int32) (x8 : Int32) (ls : Array Slot) (H : Heap) (locs : List Loc), XH D A s.heap (hC hs) (xct (LC Δ) (okC Δ) (hC hs) d σ) H locs → lv_has ls 9 [(0, .ref ((hC hs) 3 0 0)), (1, .int x1), (2, .int x2), (3, .int x3), (7, .int x7), (8, .int x8)] → kb31 σ x1 x2 x3 x7 x8 = some z → W p l e (rmD 4 0 0) s m args below meth c H locs 0 0 (MQ below (Qv D (pu z) (cw (hC hs) (LC Δ) (okC Δ) d) A) args s 0 0 A) (F0 m 31 ls [])) (σ : ST) (x1 : Int32) (x2 : Int32) (x3 : Int32) (x7 : Int32) (x8 : Int32) (s0a : Nat) (s0b : Nat) (s1 : Int32) (ks0 : (okC Δ) 15 s0a s0b = true) (ls : Array Slot) (H : Heap) (locs : List Loc) (O : XH D A s.heap (hC hs) (xct (LC Δ) (okC Δ) (hC hs) d σ) H locs) (hl : lv_has ls 9 [(0, .ref ((hC hs) 3 0 0)), (1, .int x1), (2, .int x2), (3, .int x3), (7, .int x7), (8, .int x8)]) (hf : C_X5_leads_b65 Δ kb21 kb31 σ x1 x2 x3 x7 x8 s0a s0b s1 = some z) : W p l e (rmD 4 0 0) s m args below meth c H locs 0 0 (MQ below (Qv D (pu z) (cw (hC hs) (LC Δ) (okC Δ) d) A) args s 0 0 A) (F0 m 65 ls [.int s1, .ref ((hC hs) 15 s0a s0b)]) := by
  have hx := X.1.1; have hb := X.1.2.1
  rw [C_X5_leads_b65] at hf
  refine lv_lconst (v := 0) hx hb dX5_leads_65 (by decide) ?_
  exact w_C_X5_leads_b66 X K hkb21 hkb31 _ _ _ _ _ _ _ _ _ _ ks0 ls _ _ O (lv_sub hl [0, 1, 2, 3, 4, 5] rfl) hf
def C_X5_leads_b31 (Δ : DT) (kb21 : ST → Int32 → Int32 → Int32 → Int32 → Option (ST)) : Nat → ST → Int32 → Int32 → Int32 → Int32 → Int32 → Option (ST)
  | 0, _, _, _, _, _, _ => none
  | n + 1, σ, x1, x2, x3, x7, x8 =>
    (if 8 < x8 then lt1 (x7 + 1) (fun x7_2 => kb21 σ x1 x2 x3 x7_2) else ck ((okC Δ) 14 (gR σ 3 0 0 0) 0) (ck (okI x7 9) ((if x7 = x2 then (if x8 = x3 then C_X5_leads_b66 Δ kb21 (C_X5_leads_b31 Δ kb21 n) σ x1 x2 x3 x7 x8 (gR σ 3 0 0 0) (Int32.toNatClampNeg x7) x8 1000000000 else C_X5_leads_b65 Δ kb21 (C_X5_leads_b31 Δ kb21 n) σ x1 x2 x3 x7 x8 (gR σ 3 0 0 0) (Int32.toNatClampNeg x7) x8) else C_X5_leads_b65 Δ kb21 (C_X5_leads_b31 Δ kb21 n) σ x1 x2 x3 x7 x8 (gR σ 3 0 0 0) (Int32.toNatClampNeg x7) x8))))
theorem w_C_X5_leads_b31 {Δ : DT} (X : FX p m c meth s args RX5 cX5_leads 9 none) (K : XK D d A s) {z : ST} {kb21 : ST → Int32 → Int32 → Int32 → Int32 → Option (ST)} (hkb21 : ∀ (σ : ST) (x1 : Int32) (x2 : Int32) (x3 : Int32) (x7 : Int32) (ls : Array Slot) (H : Heap) (locs : List Loc), XH D A s.heap (hC hs) (xct (LC Δ) (okC Δ) (hC hs) d σ) H locs → lv_has ls 9 [(0, .ref ((hC hs) 3 0 0)), (1, .int x1), (2, .int x2), (3, .int x3), (7, .int x7)] → kb21 σ x1 x2 x3 x7 = some z → W p l e (rmD 4 0 0) s m args below meth c H locs 0 0 (MQ below (Qv D (pu z) (cw (hC hs) (LC Δ) (okC Δ) d) A) args s 0 0 A) (F0 m 21 ls [])) : ∀ (n : Nat) (σ : ST) (x1 : Int32) (x2 : Int32) (x3 : Int32) (x7 : Int32) (x8 : Int32) (ls : Array Slot) (H : Heap) (locs : List Loc), XH D A s.heap (hC hs) (xct (LC Δ) (okC Δ) (hC hs) d σ) H locs → lv_has ls 9 [(0, .ref ((hC hs) 3 0 0)), (1, .int x1), (2, .int x2), (3, .int x3), (7, .int x7), (8, .int x8)] → C_X5_leads_b31 Δ kb21 n σ x1 x2 x3 x7 x8 = some z → W p l e (rmD 4 0 0) s m args below meth c H locs 0 0 (MQ below (Qv D (pu z) (cw (hC hs) (LC Δ) (okC Δ) d) A) args s 0 0 A) (F0 m 31 ls []) := by
  have hx := X.1.1; have hb := X.1.2.1
  intro n
  induction n with
  | zero =>
    intro σ x1 x2 x3 x7 x8 ls H locs O hl hf
    exact absurd hf (fun q => by cases q)
  | succ n ih =>
    intro σ x1 x2 x3 x7 x8 ls H locs O hl hf
    rw [C_X5_leads_b31] at hf
    refine lv_iload hx hb dX5_leads_31 (lv_at hl 5 rfl) ?_
    refine lv_bipush (v := 8) hx hb dX5_leads_33 (by decide) ?_
    refine lv_icmp_gt (tgt := 73) hx hb dX5_leads_35 (by decide) (fun c_1 => ?_) (fun c_1 => ?_)
    · replace hf := if_t c_1 hf
      obtain ⟨x7_2, ex7_2, hf⟩ := lt1_s hf
      refine lv_iinc (v := x7_2) (lv' := [(7, .int x7_2), (0, .ref ((hC hs) 3 0 0)), (1, .int x1), (2, .int x2), (3, .int x3), (8, .int x8)]) hx hb dX5_leads_73 hl (k := 4) rfl (by rw [ex7_2]; rfl) (by decide) rfl (fun ls hl => ?_)
      refine lv_goto (tgt := 21) hx hb dX5_leads_76 (by decide) ?_
      exact hkb21 _ _ _ _ _ ls _ _ O (lv_sub hl [1, 2, 3, 4, 0] rfl) hf
    · replace hf := if_f c_1 hf
      refine lv_aload_n hx hb dX5_leads_38 rfl (lv_at hl 0 rfl) ?_
      obtain ⟨c_3, hf⟩ := ck_s hf
      refine x_gR X K O 0 rfl LC_3 rfl rfl in_X5 (by decide) q342 dX5_leads_39 ?_
      refine lv_iload hx hb dX5_leads_42 (lv_at hl 4 rfl) ?_
      obtain ⟨c_4, hf⟩ := ck_s hf
      refine x_ald X K O 5 c_3 LC_14 (by decide) rfl rfl c_4 (j := (Int32.toNatClampNeg x7)) rfl dX5_leads_44 ?_
      refine lv_iload hx hb dX5_leads_45 (lv_at hl 5 rfl) ?_
      refine lv_iload hx hb dX5_leads_47 (lv_at hl 4 rfl) ?_
      refine lv_iload_n hx hb dX5_leads_49 rfl (lv_at hl 2 rfl) ?_
      refine lv_icmp_ne (tgt := 65) hx hb dX5_leads_50 (by decide) (fun c_5 => ?_) (fun c_5 => ?_)
      · replace hf := if_f c_5 hf
        exact w_C_X5_leads_b65 X K hkb21 ih _ _ _ _ _ _ _ _ _ (oks_b c_3 (okI_lt c_4)) ls _ _ O (lv_sub hl [0, 1, 2, 3, 4, 5] rfl) hf
      · replace hf := if_t c_5 hf
        refine lv_iload hx hb dX5_leads_53 (lv_at hl 5 rfl) ?_
        refine lv_iload_n hx hb dX5_leads_55 rfl (lv_at hl 3 rfl) ?_
        refine lv_icmp_ne (tgt := 65) hx hb dX5_leads_56 (by decide) (fun c_6 => ?_) (fun c_6 => ?_)
        · replace hf := if_f c_6 hf
          exact w_C_X5_leads_b65 X K hkb21 ih _ _ _ _ _ _ _ _ _ (oks_b c_3 (okI_lt c_4)) ls _ _ O (lv_sub hl [0, 1, 2, 3, 4, 5] rfl) hf
        · replace hf := if_t c_6 hf
          refine lv_ldc2 (v := 1000000000) hx hb X.1.2.2.2.1 (X.1.2.2.2.2 _ q1000) dX5_leads_59 ?_
          refine lv_goto (tgt := 66) hx hb dX5_leads_62 (by decide) ?_
          exact w_C_X5_leads_b66 X K hkb21 ih _ _ _ _ _ _ _ _ _ _ (oks_b c_3 (okI_lt c_4)) ls _ _ O (lv_sub hl [0, 1, 2, 3, 4, 5] rfl) hf
def C_X5_leads_b21 (Δ : DT) : Nat → ST → Int32 → Int32 → Int32 → Int32 → Option (ST)
  | 0, _, _, _, _, _ => none
  | n + 1, σ, x1, x2, x3, x7 =>
    (if 8 < x7 then lt1 (sL σ 13 1 0 0 0) (fun σ_2 => lt1 (sL σ_2 13 1 0 1 0) (fun σ_3 => C_X5_leads_b96 Δ FUEL σ_3 x1 0)) else C_X5_leads_b31 Δ (C_X5_leads_b21 Δ n) FUEL σ x1 x2 x3 x7 0)
theorem w_C_X5_leads_b21 {Δ : DT} (X : FX p m c meth s args RX5 cX5_leads 9 none) (K : XK D d A s) {z : ST} : ∀ (n : Nat) (σ : ST) (x1 : Int32) (x2 : Int32) (x3 : Int32) (x7 : Int32) (ls : Array Slot) (H : Heap) (locs : List Loc), XH D A s.heap (hC hs) (xct (LC Δ) (okC Δ) (hC hs) d σ) H locs → lv_has ls 9 [(0, .ref ((hC hs) 3 0 0)), (1, .int x1), (2, .int x2), (3, .int x3), (7, .int x7)] → C_X5_leads_b21 Δ n σ x1 x2 x3 x7 = some z → W p l e (rmD 4 0 0) s m args below meth c H locs 0 0 (MQ below (Qv D (pu z) (cw (hC hs) (LC Δ) (okC Δ) d) A) args s 0 0 A) (F0 m 21 ls []) := by
  have hx := X.1.1; have hb := X.1.2.1
  intro n
  induction n with
  | zero =>
    intro σ x1 x2 x3 x7 ls H locs O hl hf
    exact absurd hf (fun q => by cases q)
  | succ n ih =>
    intro σ x1 x2 x3 x7 ls H locs O hl hf
    rw [C_X5_leads_b21] at hf
    refine lv_iload hx hb dX5_leads_21 (lv_at hl 4 rfl) ?_
    refine lv_bipush (v := 8) hx hb dX5_leads_23 (by decide) ?_
    refine lv_icmp_gt (tgt := 79) hx hb dX5_leads_25 (by decide) (fun c_1 => ?_) (fun c_1 => ?_)
    · replace hf := if_t c_1 hf
      refine lv_aload_n hx hb dX5_leads_79 rfl (lv_at hl 0 rfl) ?_
      refine x_gF X K O 3 rfl LC_3 rfl rfl in_X5 (by decide) q345 dX5_leads_80 ?_
      refine lv_iconst (v := 0) hx hb dX5_leads_83 (by decide) ?_
      refine lv_lconst (v := 0) hx hb dX5_leads_84 (by decide) ?_
      obtain ⟨σ_2, eσ_2, hf⟩ := lt1_s hf
      refine x_lst X K O rfl LC_13 (by decide) (j := 0) rfl dX5_leads_85 (fun H locs O => ?_)
      rw [← eσ_2] at O
      refine lv_aload_n hx hb dX5_leads_86 rfl (lv_at hl 0 rfl) ?_
      refine x_gF X K O 3 rfl LC_3 rfl rfl in_X5 (by decide) q345 dX5_leads_87 ?_
      refine lv_iconst (v := 1) hx hb dX5_leads_90 (by decide) ?_
      refine lv_lconst (v := 0) hx hb dX5_leads_91 (by decide) ?_
      obtain ⟨σ_3, eσ_3, hf⟩ := lt1_s hf
      refine x_lst X K O rfl LC_13 (by decide) (j := 1) rfl dX5_leads_92 (fun H locs O => ?_)
      rw [← eσ_3] at O
      refine lv_iconst (v := 0) hx hb dX5_leads_93 (by decide) ?_
      refine lv_istore (lv' := [(7, .int 0), (0, .ref ((hC hs) 3 0 0)), (1, .int x1), (2, .int x2), (3, .int x3)]) hx hb dX5_leads_94 hl (by decide) rfl (fun ls hl => ?_)
      exact w_C_X5_leads_b96 X K _ _ _ _ ls _ _ O (lv_sub hl [1, 2, 0] rfl) hf
    · replace hf := if_f c_1 hf
      refine lv_iconst (v := 0) hx hb dX5_leads_28 (by decide) ?_
      refine lv_istore (lv' := [(8, .int 0), (0, .ref ((hC hs) 3 0 0)), (1, .int x1), (2, .int x2), (3, .int x3), (7, .int x7)]) hx hb dX5_leads_29 hl (by decide) rfl (fun ls hl => ?_)
      exact w_C_X5_leads_b31 X K ih _ _ _ _ _ _ _ ls _ _ O (lv_sub hl [1, 2, 3, 4, 5, 0] rfl) hf
def C_X5_leads (Δ : DT) (σ : ST) (p1 : Int32) (p2 : Int32) (p3 : Int32) (p4 : Int32) (p5 : Int32) (p6 : Int32) : Option (ST) :=
  lt1 (sI σ 3 0 0 4 p4) (fun σ_1 => lt1 (sI σ_1 3 0 0 5 p5) (fun σ_2 => lt1 (sI σ_2 3 0 0 6 p6) (fun σ_3 => C_X5_leads_b21 Δ FUEL σ_3 p1 p2 p3 0)))
theorem m_C_X5_leads {l : Launch} {D : va_G} {d : Nat → ClassId} {hs : IX} {Δ : DT} {p1 : Int32} {p2 : Int32} {p3 : Int32} {p4 : Int32} {p5 : Int32} {p6 : Int32} {σ : ST} {z : ST} (hf : C_X5_leads Δ σ p1 p2 p3 p4 p5 p6 = some z) : XM l D d EN yX5_leads cX5_leads 9 none 4 0 0 [.ref ((hC hs) 3 0 0), .int p1, .int p2, .int p3, .int p4, .int p5, .int p6] (hC hs) (xct (LC Δ) (okC Δ) (hC hs) d σ) (Qv D (pu z) (cw (hC hs) (LC Δ) (okC Δ) d)) := by
  refine XM.of (by decide +kernel) (Nat.le_of_ble_eq_true rfl) ?_
  intro p e s m below meth c A ls X _ K _ O hl
  have hl : lv_has ls 9 [(0, .ref ((hC hs) 3 0 0)), (1, .int p1), (2, .int p2), (3, .int p3), (4, .int p4), (5, .int p5), (6, .int p6)] := hl
  have hx := X.1.1; have hb := X.1.2.1
  rw [C_X5_leads] at hf
  refine lv_aload_n hx hb dX5_leads_0 rfl (lv_at hl 0 rfl) ?_
  refine lv_iload hx hb dX5_leads_1 (lv_at hl 4 rfl) ?_
  obtain ⟨σ_1, eσ_1, hf⟩ := lt1_s hf
  refine x_pI X K O 4 rfl LC_3 rfl rfl in_X5 tyX5_ok nmX5 (by decide) q347 rfl rfl rfl dX5_leads_3 (fun H locs O => ?_)
  rw [← eσ_1] at O
  refine lv_aload_n hx hb dX5_leads_6 rfl (lv_at hl 0 rfl) ?_
  refine lv_iload hx hb dX5_leads_7 (lv_at hl 5 rfl) ?_
  obtain ⟨σ_2, eσ_2, hf⟩ := lt1_s hf
  refine x_pI X K O 5 rfl LC_3 rfl rfl in_X5 tyX5_ok nmX5 (by decide) q348 rfl rfl rfl dX5_leads_9 (fun H locs O => ?_)
  rw [← eσ_2] at O
  refine lv_aload_n hx hb dX5_leads_12 rfl (lv_at hl 0 rfl) ?_
  refine lv_iload hx hb dX5_leads_13 (lv_at hl 6 rfl) ?_
  obtain ⟨σ_3, eσ_3, hf⟩ := lt1_s hf
  refine x_pI X K O 6 rfl LC_3 rfl rfl in_X5 tyX5_ok nmX5 (by decide) q349 rfl rfl rfl dX5_leads_15 (fun H locs O => ?_)
  rw [← eσ_3] at O
  refine lv_iconst (v := 0) hx hb dX5_leads_18 (by decide) ?_
  refine lv_istore (lv' := [(7, .int 0), (0, .ref ((hC hs) 3 0 0)), (1, .int p1), (2, .int p2), (3, .int p3), (4, .int p4), (5, .int p5), (6, .int p6)]) hx hb dX5_leads_19 hl (by decide) rfl (fun ls hl => ?_)
  exact w_C_X5_leads_b21 X K _ _ _ _ _ _ ls _ _ O (lv_sub hl [1, 2, 3, 4, 0] rfl) hf
theorem hdV_X0_isPair : yX0_isPair.cls = RX0 ∧ (yX0_isPair.cls ≠ "java/lang/invoke/MethodHandle" ∧ yX0_isPair.cls ≠ "java/lang/invoke/VarHandle" ∧ (parseMethodDescriptor yX0_isPair.desc).map (fun d => d.parameters.length) = some 4) := by decide +kernel
theorem hdV_X5_leads : yX5_leads.cls = RX5 ∧ (yX5_leads.cls ≠ "java/lang/invoke/MethodHandle" ∧ yX5_leads.cls ≠ "java/lang/invoke/VarHandle" ∧ (parseMethodDescriptor yX5_leads.desc).map (fun d => d.parameters.length) = some 6) := by decide +kernel
def C_X0_pair (Δ : DT) (σ : ST) (p1 : Int32) (p2 : Int32) (p3 : Int32) (p4 : Int32) (p5 : Int32) (p6 : Int32) (p7 : Int32) : Option (ST × Int64) :=
  bn2 (C_X0_isPair Δ σ p1 p2 p3 p4) (fun σ_1 r_2 => (if r_2 = 0 then some (σ_1, (-1000000000)) else bn2 (C_X0_isIn Δ σ_1 p5 1 13) (fun σ_4 r_5 => (if r_5 = 0 then some (σ_4, (-1000000000)) else bn2 (C_X0_isIn Δ σ_4 p6 1 13) (fun σ_7 r_8 => (if r_8 = 0 then some (σ_7, (-1000000000)) else bn2 (C_X0_isIn Δ σ_7 p7 0 1) (fun σ_10 r_11 => (if r_11 = 0 then some (σ_10, (-1000000000)) else bn1 (C_X5_leads Δ σ_10 p1 p2 p3 p4 p5 p6) (fun σ_13 => ck (okI p7 2) (some (σ_13, (gL σ_13 13 1 0 (Int32.toNatClampNeg p7)))))))))))))
theorem m_C_X0_pair {l : Launch} {D : va_G} {d : Nat → ClassId} {hs : IX} {Δ : DT} {p1 : Int32} {p2 : Int32} {p3 : Int32} {p4 : Int32} {p5 : Int32} {p6 : Int32} {p7 : Int32} {σ : ST} {z : ST × Int64} (hf : C_X0_pair Δ σ p1 p2 p3 p4 p5 p6 p7 = some z) : XM l D d EN yX0_pair cX0_pair 8 (some .long) 5 0 0 [.ref ((hC hs) 0 0 0), .int p1, .int p2, .int p3, .int p4, .int p5, .int p6, .int p7] (hC hs) (xct (LC Δ) (okC Δ) (hC hs) d σ) (Ql D (pz z) (cw (hC hs) (LC Δ) (okC Δ) d)) := by
  refine XM.of (by decide +kernel) (Nat.le_of_ble_eq_true rfl) ?_
  intro p e s m below meth c A ls X _ K _ O hl
  have hl : lv_has ls 8 [(0, .ref ((hC hs) 0 0 0)), (1, .int p1), (2, .int p2), (3, .int p3), (4, .int p4), (5, .int p5), (6, .int p6), (7, .int p7)] := hl
  have hx := X.1.1; have hb := X.1.2.1
  rw [C_X0_pair] at hf
  refine lv_aload_n hx hb dX0_pair_0 rfl (lv_at hl 0 rfl) ?_
  refine lv_iload_n hx hb dX0_pair_1 rfl (lv_at hl 1 rfl) ?_
  refine lv_iload_n hx hb dX0_pair_2 rfl (lv_at hl 2 rfl) ?_
  refine lv_iload_n hx hb dX0_pair_3 rfl (lv_at hl 3 rfl) ?_
  refine lv_iload hx hb dX0_pair_4 (lv_at hl 4 rfl) ?_
  obtain ⟨σ_1, r_2, hg, hf⟩ := bn2_s hf
  refine x_calli (x_runV (As := [.int p1, .int p2, .int p3, .int p4]) (rest := []) X K O (xct_obj rfl LC_0) rfl (m_C_X0_isPair hg) EN_b EN_h (lw_V q992 q994 qs35 q111 q995) 4 rfl hl.1 (Nat.le_of_ble_eq_true rfl) hdV_X0_isPair ⟨by decide, by decide⟩ ⟨Nat.le_refl _, Nat.le_refl _⟩ dX0_pair_6) (fun r u H locs hp O _ => ?_)
  cases hp
  have O : XH D A s.heap (hC hs) (xct (LC Δ) (okC Δ) (hC hs) d σ_1) H locs := O
  refine lv_if_eq (tgt := 44) hx hb dX0_pair_9 (by decide) (fun c_3 => ?_) (fun c_3 => ?_)
  · replace hf := if_t c_3 hf
    refine lv_ldc2 (v := (-1000000000)) hx hb X.1.2.2.2.1 (X.1.2.2.2.2 _ q944) dX0_pair_44 ?_
    exact x_lret X O rfl _ (Option.some.inj hf).symm rfl dX0_pair_47
  · replace hf := if_f c_3 hf
    refine lv_iload hx hb dX0_pair_12 (lv_at hl 5 rfl) ?_
    refine lv_iconst (v := 1) hx hb dX0_pair_14 (by decide) ?_
    refine lv_bipush (v := 13) hx hb dX0_pair_15 (by decide) ?_
    obtain ⟨σ_4, r_5, hg, hf⟩ := bn2_s hf
    refine x_calli (x_runS (As := [.int p5, .int 1, .int 13]) (rest := []) X K O (m_C_X0_isIn hg) EN_b EN_h (lw_S q444 q445 q111 q446) 3 rfl hl.1 (Nat.le_of_ble_eq_true rfl) hdS_X0_isIn ⟨by decide, by decide⟩ ⟨Nat.le_refl _, Nat.le_refl _⟩ dX0_pair_17) (fun r u H locs hp O _ => ?_)
    cases hp
    have O : XH D A s.heap (hC hs) (xct (LC Δ) (okC Δ) (hC hs) d σ_4) H locs := O
    refine lv_if_eq (tgt := 44) hx hb dX0_pair_20 (by decide) (fun c_6 => ?_) (fun c_6 => ?_)
    · replace hf := if_t c_6 hf
      refine lv_ldc2 (v := (-1000000000)) hx hb X.1.2.2.2.1 (X.1.2.2.2.2 _ q944) dX0_pair_44 ?_
      exact x_lret X O rfl _ (Option.some.inj hf).symm rfl dX0_pair_47
    · replace hf := if_f c_6 hf
      refine lv_iload hx hb dX0_pair_23 (lv_at hl 6 rfl) ?_
      refine lv_iconst (v := 1) hx hb dX0_pair_25 (by decide) ?_
      refine lv_bipush (v := 13) hx hb dX0_pair_26 (by decide) ?_
      obtain ⟨σ_7, r_8, hg, hf⟩ := bn2_s hf
      refine x_calli (x_runS (As := [.int p6, .int 1, .int 13]) (rest := []) X K O (m_C_X0_isIn hg) EN_b EN_h (lw_S q444 q445 q111 q446) 3 rfl hl.1 (Nat.le_of_ble_eq_true rfl) hdS_X0_isIn ⟨by decide, by decide⟩ ⟨Nat.le_refl _, Nat.le_refl _⟩ dX0_pair_28) (fun r u H locs hp O _ => ?_)
      cases hp
      have O : XH D A s.heap (hC hs) (xct (LC Δ) (okC Δ) (hC hs) d σ_7) H locs := O
      refine lv_if_eq (tgt := 44) hx hb dX0_pair_31 (by decide) (fun c_9 => ?_) (fun c_9 => ?_)
      · replace hf := if_t c_9 hf
        refine lv_ldc2 (v := (-1000000000)) hx hb X.1.2.2.2.1 (X.1.2.2.2.2 _ q944) dX0_pair_44 ?_
        exact x_lret X O rfl _ (Option.some.inj hf).symm rfl dX0_pair_47
      · replace hf := if_f c_9 hf
        refine lv_iload hx hb dX0_pair_34 (lv_at hl 7 rfl) ?_
        refine lv_iconst (v := 0) hx hb dX0_pair_36 (by decide) ?_
        refine lv_iconst (v := 1) hx hb dX0_pair_37 (by decide) ?_
        obtain ⟨σ_10, r_11, hg, hf⟩ := bn2_s hf
        refine x_calli (x_runS (As := [.int p7, .int 0, .int 1]) (rest := []) X K O (m_C_X0_isIn hg) EN_b EN_h (lw_S q444 q445 q111 q446) 3 rfl hl.1 (Nat.le_of_ble_eq_true rfl) hdS_X0_isIn ⟨by decide, by decide⟩ ⟨Nat.le_refl _, Nat.le_refl _⟩ dX0_pair_38) (fun r u H locs hp O _ => ?_)
        cases hp
        have O : XH D A s.heap (hC hs) (xct (LC Δ) (okC Δ) (hC hs) d σ_10) H locs := O
        refine lv_if_ne (tgt := 48) hx hb dX0_pair_41 (by decide) (fun c_12 => ?_) (fun c_12 => ?_)
        · replace hf := if_f c_12 hf
          refine lv_aload_n hx hb dX0_pair_48 rfl (lv_at hl 0 rfl) ?_
          refine x_gF X K O 16 rfl LC_0 rfl rfl in_X0 (by decide) q390 dX0_pair_49 ?_
          refine lv_iload_n hx hb dX0_pair_52 rfl (lv_at hl 1 rfl) ?_
          refine lv_iload_n hx hb dX0_pair_53 rfl (lv_at hl 2 rfl) ?_
          refine lv_iload_n hx hb dX0_pair_54 rfl (lv_at hl 3 rfl) ?_
          refine lv_iload hx hb dX0_pair_55 (lv_at hl 4 rfl) ?_
          refine lv_iload hx hb dX0_pair_57 (lv_at hl 5 rfl) ?_
          refine lv_iload hx hb dX0_pair_59 (lv_at hl 6 rfl) ?_
          obtain ⟨σ_13, hg, hf⟩ := bn1_s hf
          refine x_callv (x_runV (As := [.int p1, .int p2, .int p3, .int p4, .int p5, .int p6]) (rest := []) X K O (xct_obj rfl LC_3) rfl (m_C_X5_leads hg) EN_b EN_h (lw_V q996 q997 q998 q123 q999) 6 rfl hl.1 (Nat.le_of_ble_eq_true rfl) hdV_X5_leads ⟨by decide, by decide⟩ ⟨Nat.le_refl _, Nat.le_refl _⟩ dX0_pair_61) (fun u H locs hp O _ => ?_)
          cases hp
          have O : XH D A s.heap (hC hs) (xct (LC Δ) (okC Δ) (hC hs) d σ_13) H locs := O
          refine lv_aload_n hx hb dX0_pair_64 rfl (lv_at hl 0 rfl) ?_
          refine x_gF X K O 16 rfl LC_0 rfl rfl in_X0 (by decide) q390 dX0_pair_65 ?_
          refine x_gFN X K O 3 rfl LC_3 rfl rfl in_X5 (by decide) q346 dX0_pair_68 ?_
          refine lv_iload hx hb dX0_pair_71 (lv_at hl 7 rfl) ?_
          obtain ⟨c_14, hf⟩ := ck_s hf
          refine x_lld X K O rfl LC_13 c_14 (j := (Int32.toNatClampNeg p7)) rfl dX0_pair_73 ?_
          exact x_lret X O rfl _ (Option.some.inj hf).symm rfl dX0_pair_74
        · replace hf := if_t c_12 hf
          refine lv_ldc2 (v := (-1000000000)) hx hb X.1.2.2.2.1 (X.1.2.2.2.2 _ q944) dX0_pair_44 ?_
          exact x_lret X O rfl _ (Option.some.inj hf).symm rfl dX0_pair_47
def C_X0_doesHold_b2 (Δ : DT) : Nat → ST → Int32 → Int32 → Int32 → Option (ST × Int32)
  | 0, _, _, _, _ => none
  | n + 1, σ, x1, x2, x3 =>
    (if 13 < x3 then some (σ, 1) else ck (okI x3 14) (ck (okI x2 14) (ck (okI x1 14) (ck (okI x2 14) ((if 0 < (lg_cmp (gL σ 17 0 (Int32.toNatClampNeg x3) (Int32.toNatClampNeg x2)) (gL σ 17 0 (Int32.toNatClampNeg x1) (Int32.toNatClampNeg x2))) then some (σ, 0) else ck (okI x1 14) (ck (okI x3 14) (ck (okI x1 14) (ck (okI x2 14) ((if (lg_cmp (gL σ 17 1 (Int32.toNatClampNeg x1) (Int32.toNatClampNeg x3)) (gL σ 17 1 (Int32.toNatClampNeg x1) (Int32.toNatClampNeg x2))) ≤ 0 then lt1 (x3 + 1) (fun x3_12 => (C_X0_doesHold_b2 Δ n) σ x1 x2 x3_12) else some (σ, 0))))))))))))
theorem w_C_X0_doesHold_b2 {Δ : DT} (X : FX p m c meth s args RX0 cX0_doesHold 4 (some .boolean)) (K : XK D d A s) {z : ST × Int32} : ∀ (n : Nat) (σ : ST) (x1 : Int32) (x2 : Int32) (x3 : Int32) (ls : Array Slot) (H : Heap) (locs : List Loc), XH D A s.heap (hC hs) (xct (LC Δ) (okC Δ) (hC hs) d σ) H locs → lv_has ls 4 [(0, .ref ((hC hs) 0 0 0)), (1, .int x1), (2, .int x2), (3, .int x3)] → C_X0_doesHold_b2 Δ n σ x1 x2 x3 = some z → W p l e (rmD 0 0 0) s m args below meth c H locs 0 0 (MQ below (Qi D (pz z) (cw (hC hs) (LC Δ) (okC Δ) d) A) args s 0 0 A) (F0 m 2 ls []) := by
  have hx := X.1.1; have hb := X.1.2.1
  intro n
  induction n with
  | zero =>
    intro σ x1 x2 x3 ls H locs O hl hf
    exact absurd hf (fun q => by cases q)
  | succ n ih =>
    intro σ x1 x2 x3 ls H locs O hl hf
    rw [C_X0_doesHold_b2] at hf
    refine lv_iload_n hx hb dX0_doesHold_2 rfl (lv_at hl 3 rfl) ?_
    refine lv_bipush (v := 13) hx hb dX0_doesHold_3 (by decide) ?_
    refine lv_icmp_gt (tgt := 56) hx hb dX0_doesHold_5 (by decide) (fun c_1 => ?_) (fun c_1 => ?_)
    · replace hf := if_t c_1 hf
      refine lv_iconst (v := 1) hx hb dX0_doesHold_56 (by decide) ?_
      exact x_zret X O rfl rfl _ (Option.some.inj hf).symm rfl dX0_doesHold_57
    · replace hf := if_f c_1 hf
      refine lv_aload_n hx hb dX0_doesHold_8 rfl (lv_at hl 0 rfl) ?_
      refine x_gF X K O 17 rfl LC_0 rfl rfl in_X0 (by decide) q391 dX0_doesHold_9 ?_
      refine lv_iload_n hx hb dX0_doesHold_12 rfl (lv_at hl 3 rfl) ?_
      obtain ⟨c_2, hf⟩ := ck_s hf
      refine x_ald X K O 5 rfl LC_16 (by decide) rfl rfl c_2 (j := (Int32.toNatClampNeg x3)) rfl dX0_doesHold_13 ?_
      refine lv_iload_n hx hb dX0_doesHold_14 rfl (lv_at hl 2 rfl) ?_
      obtain ⟨c_3, hf⟩ := ck_s hf
      refine x_lld X K O (oks_b (B := 1) (b := 0) rfl (okI_lt c_2)) LC_17 c_3 (j := (Int32.toNatClampNeg x2)) rfl dX0_doesHold_15 ?_
      refine lv_aload_n hx hb dX0_doesHold_16 rfl (lv_at hl 0 rfl) ?_
      refine x_gF X K O 17 rfl LC_0 rfl rfl in_X0 (by decide) q391 dX0_doesHold_17 ?_
      refine lv_iload_n hx hb dX0_doesHold_20 rfl (lv_at hl 1 rfl) ?_
      obtain ⟨c_4, hf⟩ := ck_s hf
      refine x_ald X K O 5 rfl LC_16 (by decide) rfl rfl c_4 (j := (Int32.toNatClampNeg x1)) rfl dX0_doesHold_21 ?_
      refine lv_iload_n hx hb dX0_doesHold_22 rfl (lv_at hl 2 rfl) ?_
      obtain ⟨c_5, hf⟩ := ck_s hf
      refine x_lld X K O (oks_b (B := 1) (b := 0) rfl (okI_lt c_4)) LC_17 c_5 (j := (Int32.toNatClampNeg x2)) rfl dX0_doesHold_23 ?_
      refine W.lcmp hx hb dX0_doesHold_24 ?_
      refine lv_if_gt (tgt := 48) hx hb dX0_doesHold_25 (by decide) (fun c_6 => ?_) (fun c_6 => ?_)
      · replace hf := if_t c_6 hf
        refine lv_iconst (v := 0) hx hb dX0_doesHold_48 (by decide) ?_
        exact x_zret X O rfl rfl _ (Option.some.inj hf).symm rfl dX0_doesHold_49
      · replace hf := if_f c_6 hf
        refine lv_aload_n hx hb dX0_doesHold_28 rfl (lv_at hl 0 rfl) ?_
        refine x_gF X K O 18 rfl LC_0 rfl rfl in_X0 (by decide) q392 dX0_doesHold_29 ?_
        refine lv_iload_n hx hb dX0_doesHold_32 rfl (lv_at hl 1 rfl) ?_
        obtain ⟨c_7, hf⟩ := ck_s hf
        refine x_ald X K O 5 rfl LC_16 (by decide) rfl rfl c_7 (j := (Int32.toNatClampNeg x1)) rfl dX0_doesHold_33 ?_
        refine lv_iload_n hx hb dX0_doesHold_34 rfl (lv_at hl 3 rfl) ?_
        obtain ⟨c_8, hf⟩ := ck_s hf
        refine x_lld X K O (oks_b (B := 1) (b := 0) rfl (okI_lt c_7)) LC_17 c_8 (j := (Int32.toNatClampNeg x3)) rfl dX0_doesHold_35 ?_
        refine lv_aload_n hx hb dX0_doesHold_36 rfl (lv_at hl 0 rfl) ?_
        refine x_gF X K O 18 rfl LC_0 rfl rfl in_X0 (by decide) q392 dX0_doesHold_37 ?_
        refine lv_iload_n hx hb dX0_doesHold_40 rfl (lv_at hl 1 rfl) ?_
        obtain ⟨c_9, hf⟩ := ck_s hf
        refine x_ald X K O 5 rfl LC_16 (by decide) rfl rfl c_9 (j := (Int32.toNatClampNeg x1)) rfl dX0_doesHold_41 ?_
        refine lv_iload_n hx hb dX0_doesHold_42 rfl (lv_at hl 2 rfl) ?_
        obtain ⟨c_10, hf⟩ := ck_s hf
        refine x_lld X K O (oks_b (B := 1) (b := 0) rfl (okI_lt c_9)) LC_17 c_10 (j := (Int32.toNatClampNeg x2)) rfl dX0_doesHold_43 ?_
        refine W.lcmp hx hb dX0_doesHold_44 ?_
        refine lv_if_le (tgt := 50) hx hb dX0_doesHold_45 (by decide) (fun c_11 => ?_) (fun c_11 => ?_)
        · replace hf := if_t c_11 hf
          obtain ⟨x3_12, ex3_12, hf⟩ := lt1_s hf
          refine lv_iinc (v := x3_12) (lv' := [(3, .int x3_12), (0, .ref ((hC hs) 0 0 0)), (1, .int x1), (2, .int x2)]) hx hb dX0_doesHold_50 hl (k := 3) rfl (by rw [ex3_12]; rfl) (by decide) rfl (fun ls hl => ?_)
          refine lv_goto (tgt := 2) hx hb dX0_doesHold_53 (by decide) ?_
          exact ih _ _ _ _ ls _ _ O (lv_sub hl [1, 2, 3, 0] rfl) hf
        · replace hf := if_f c_11 hf
          refine lv_iconst (v := 0) hx hb dX0_doesHold_48 (by decide) ?_
          exact x_zret X O rfl rfl _ (Option.some.inj hf).symm rfl dX0_doesHold_49
def C_X0_doesHold (Δ : DT) (σ : ST) (p1 : Int32) (p2 : Int32) : Option (ST × Int32) :=
  C_X0_doesHold_b2 Δ FUEL σ p1 p2 1
theorem m_C_X0_doesHold {l : Launch} {D : va_G} {d : Nat → ClassId} {hs : IX} {Δ : DT} {p1 : Int32} {p2 : Int32} {σ : ST} {z : ST × Int32} (hf : C_X0_doesHold Δ σ p1 p2 = some z) : XM l D d EN yX0_doesHold cX0_doesHold 4 (some .boolean) 0 0 0 [.ref ((hC hs) 0 0 0), .int p1, .int p2] (hC hs) (xct (LC Δ) (okC Δ) (hC hs) d σ) (Qi D (pz z) (cw (hC hs) (LC Δ) (okC Δ) d)) := by
  refine XM.of (by decide +kernel) (Nat.le_of_ble_eq_true rfl) ?_
  intro p e s m below meth c A ls X _ K _ O hl
  have hl : lv_has ls 4 [(0, .ref ((hC hs) 0 0 0)), (1, .int p1), (2, .int p2)] := hl
  have hx := X.1.1; have hb := X.1.2.1
  rw [C_X0_doesHold] at hf
  refine lv_iconst (v := 1) hx hb dX0_doesHold_0 (by decide) ?_
  refine lv_istore_n (lv' := [(3, .int 1), (0, .ref ((hC hs) 0 0 0)), (1, .int p1), (2, .int p2)]) hx hb dX0_doesHold_1 rfl hl (by decide) rfl (fun ls hl => ?_)
  exact w_C_X0_doesHold_b2 X K _ _ _ _ _ ls _ _ O (lv_sub hl [1, 2, 3, 0] rfl) hf
theorem hdV_X0_doesHold : yX0_doesHold.cls = RX0 ∧ (yX0_doesHold.cls ≠ "java/lang/invoke/MethodHandle" ∧ yX0_doesHold.cls ≠ "java/lang/invoke/VarHandle" ∧ (parseMethodDescriptor yX0_doesHold.desc).map (fun d => d.parameters.length) = some 2) := by decide +kernel
def C_X0_holds_b234 (Δ : DT) (kb125 : ST → Int32 → Int32 → Int32 → Int32 → Int64 → Int32 → Option (ST × Int32)) (kb135 : ST → Int32 → Int32 → Int32 → Int32 → Int64 → Int32 → Int32 → Option (ST × Int32)) (σ : ST) (x5 : Int32) (x6 : Int32) (x7 : Int32) (x8 : Int32) (x9 : Int64) (x11 : Int32) (x12 : Int32) : Option (ST × Int32) :=
  lt1 (x12 + 1) (fun x12_1 => kb135 σ x5 x6 x7 x8 x9 x11 x12_1)
theorem w_C_X0_holds_b234 {Δ : DT} (X : FX p m c meth s args RX0 cX0_holds 15 (some .int)) (K : XK D d A s) {z : ST × Int32} {kb125 : ST → Int32 → Int32 → Int32 → Int32 → Int64 → Int32 → Option (ST × Int32)} (hkb125 : ∀ (σ : ST) (x5 : Int32) (x6 : Int32) (x7 : Int32) (x8 : Int32) (x9 : Int64) (x11 : Int32) (ls : Array Slot) (H : Heap) (locs : List Loc), XH D A s.heap (hC hs) (xct (LC Δ) (okC Δ) (hC hs) d σ) H locs → lv_has ls 15 [(0, .ref ((hC hs) 0 0 0)), (5, .int x5), (6, .int x6), (7, .int x7), (8, .int x8), (9, .long x9), (11, .int x11)] → kb125 σ x5 x6 x7 x8 x9 x11 = some z → W p l e (rmD 5 0 0) s m args below meth c H locs 0 0 (MQ below (Qi D (pz z) (cw (hC hs) (LC Δ) (okC Δ) d) A) args s 0 0 A) (F0 m 125 ls [])) {kb135 : ST → Int32 → Int32 → Int32 → Int32 → Int64 → Int32 → Int32 → Option (ST × Int32)} (hkb135 : ∀ (σ : ST) (x5 : Int32) (x6 : Int32) (x7 : Int32) (x8 : Int32) (x9 : Int64) (x11 : Int32) (x12 : Int32) (ls : Array Slot) (H : Heap) (locs : List Loc), XH D A s.heap (hC hs) (xct (LC Δ) (okC Δ) (hC hs) d σ) H locs → lv_has ls 15 [(0, .ref ((hC hs) 0 0 0)), (5, .int x5), (6, .int x6), (7, .int x7), (8, .int x8), (9, .long x9), (11, .int x11), (12, .int x12)] → kb135 σ x5 x6 x7 x8 x9 x11 x12 = some z → W p l e (rmD 5 0 0) s m args below meth c H locs 0 0 (MQ below (Qi D (pz z) (cw (hC hs) (LC Δ) (okC Δ) d) A) args s 0 0 A) (F0 m 135 ls [])) (σ : ST) (x5 : Int32) (x6 : Int32) (x7 : Int32) (x8 : Int32) (x9 : Int64) (x11 : Int32) (x12 : Int32) (ls : Array Slot) (H : Heap) (locs : List Loc) (O : XH D A s.heap (hC hs) (xct (LC Δ) (okC Δ) (hC hs) d σ) H locs) (hl : lv_has ls 15 [(0, .ref ((hC hs) 0 0 0)), (5, .int x5), (6, .int x6), (7, .int x7), (8, .int x8), (9, .long x9), (11, .int x11), (12, .int x12)]) (hf : C_X0_holds_b234 Δ kb125 kb135 σ x5 x6 x7 x8 x9 x11 x12 = some z) : W p l e (rmD 5 0 0) s m args below meth c H locs 0 0 (MQ below (Qi D (pz z) (cw (hC hs) (LC Δ) (okC Δ) d) A) args s 0 0 A) (F0 m 234 ls []) := by
  have hx := X.1.1; have hb := X.1.2.1
  rw [C_X0_holds_b234] at hf
  obtain ⟨x12_1, ex12_1, hf⟩ := lt1_s hf
  refine lv_iinc (v := x12_1) (lv' := [(12, .int x12_1), (0, .ref ((hC hs) 0 0 0)), (5, .int x5), (6, .int x6), (7, .int x7), (8, .int x8), (9, .long x9), (11, .int x11)]) hx hb dX0_holds_234 hl (k := 7) rfl (by rw [ex12_1]; rfl) (by decide) rfl (fun ls hl => ?_)
  refine lv_goto (tgt := 135) hx hb dX0_holds_237 (by decide) ?_
  exact hkb135 _ _ _ _ _ _ _ _ ls _ _ O (lv_sub hl [1, 2, 3, 4, 5, 6, 7, 0] rfl) hf
def C_X0_holds_b220 (Δ : DT) (kb125 : ST → Int32 → Int32 → Int32 → Int32 → Int64 → Int32 → Option (ST × Int32)) (kb135 : ST → Int32 → Int32 → Int32 → Int32 → Int64 → Int32 → Int32 → Option (ST × Int32)) (σ : ST) (x5 : Int32) (x6 : Int32) (x7 : Int32) (x11 : Int32) (x12 : Int32) (x13 : Int64) : Option (ST × Int32) :=
  lt1 ((20 * x11) + x12) (fun x8_1 => C_X0_holds_b234 Δ kb125 kb135 σ x5 x6 x7 x8_1 x13 x11 x12)
theorem w_C_X0_holds_b220 {Δ : DT} (X : FX p m c meth s args RX0 cX0_holds 15 (some .int)) (K : XK D d A s) {z : ST × Int32} {kb125 : ST → Int32 → Int32 → Int32 → Int32 → Int64 → Int32 → Option (ST × Int32)} (hkb125 : ∀ (σ : ST) (x5 : Int32) (x6 : Int32) (x7 : Int32) (x8 : Int32) (x9 : Int64) (x11 : Int32) (ls : Array Slot) (H : Heap) (locs : List Loc), XH D A s.heap (hC hs) (xct (LC Δ) (okC Δ) (hC hs) d σ) H locs → lv_has ls 15 [(0, .ref ((hC hs) 0 0 0)), (5, .int x5), (6, .int x6), (7, .int x7), (8, .int x8), (9, .long x9), (11, .int x11)] → kb125 σ x5 x6 x7 x8 x9 x11 = some z → W p l e (rmD 5 0 0) s m args below meth c H locs 0 0 (MQ below (Qi D (pz z) (cw (hC hs) (LC Δ) (okC Δ) d) A) args s 0 0 A) (F0 m 125 ls [])) {kb135 : ST → Int32 → Int32 → Int32 → Int32 → Int64 → Int32 → Int32 → Option (ST × Int32)} (hkb135 : ∀ (σ : ST) (x5 : Int32) (x6 : Int32) (x7 : Int32) (x8 : Int32) (x9 : Int64) (x11 : Int32) (x12 : Int32) (ls : Array Slot) (H : Heap) (locs : List Loc), XH D A s.heap (hC hs) (xct (LC Δ) (okC Δ) (hC hs) d σ) H locs → lv_has ls 15 [(0, .ref ((hC hs) 0 0 0)), (5, .int x5), (6, .int x6), (7, .int x7), (8, .int x8), (9, .long x9), (11, .int x11), (12, .int x12)] → kb135 σ x5 x6 x7 x8 x9 x11 x12 = some z → W p l e (rmD 5 0 0) s m args below meth c H locs 0 0 (MQ below (Qi D (pz z) (cw (hC hs) (LC Δ) (okC Δ) d) A) args s 0 0 A) (F0 m 135 ls [])) (σ : ST) (x5 : Int32) (x6 : Int32) (x7 : Int32) (x11 : Int32) (x12 : Int32) (x13 : Int64) (ls : Array Slot) (H : Heap) (locs : List Loc) (O : XH D A s.heap (hC hs) (xct (LC Δ) (okC Δ) (hC hs) d σ) H locs) (hl : lv_has ls 15 [(0, .ref ((hC hs) 0 0 0)), (5, .int x5), (6, .int x6), (7, .int x7), (11, .int x11), (12, .int x12), (13, .long x13)]) (hf : C_X0_holds_b220 Δ kb125 kb135 σ x5 x6 x7 x11 x12 x13 = some z) : W p l e (rmD 5 0 0) s m args below meth c H locs 0 0 (MQ below (Qi D (pz z) (cw (hC hs) (LC Δ) (okC Δ) d) A) args s 0 0 A) (F0 m 220 ls []) := by
  have hx := X.1.1; have hb := X.1.2.1
  rw [C_X0_holds_b220] at hf
  refine lv_bipush (v := 20) hx hb dX0_holds_220 (by decide) ?_
  refine lv_iload hx hb dX0_holds_222 (lv_at hl 4 rfl) ?_
  refine lv_imul hx hb dX0_holds_224 ?_
  refine lv_iload hx hb dX0_holds_225 (lv_at hl 5 rfl) ?_
  refine lv_iadd hx hb dX0_holds_227 ?_
  obtain ⟨x8_1, ex8_1, hf⟩ := lt1_s hf
  refine x_top (w := .int x8_1) (by rw [ex8_1]) ?_
  refine lv_istore (lv' := [(8, .int x8_1), (0, .ref ((hC hs) 0 0 0)), (5, .int x5), (6, .int x6), (7, .int x7), (11, .int x11), (12, .int x12), (13, .long x13)]) hx hb dX0_holds_228 hl (by decide) rfl (fun ls hl => ?_)
  refine lv_lload hx hb dX0_holds_230 (lv_at hl 7 rfl) ?_
  refine lv_lstore (lv' := [(9, .long x13), (8, .int x8_1), (0, .ref ((hC hs) 0 0 0)), (5, .int x5), (6, .int x6), (7, .int x7), (11, .int x11), (12, .int x12), (13, .long x13)]) hx hb dX0_holds_232 hl (by decide) rfl (fun ls hl => ?_)
  exact w_C_X0_holds_b234 X K hkb125 hkb135 _ _ _ _ _ _ _ _ ls _ _ O (lv_sub hl [2, 3, 4, 5, 1, 0, 6, 7] rfl) hf
def C_X0_holds_b178 (Δ : DT) (kb125 : ST → Int32 → Int32 → Int32 → Int32 → Int64 → Int32 → Option (ST × Int32)) (kb135 : ST → Int32 → Int32 → Int32 → Int32 → Int64 → Int32 → Int32 → Option (ST × Int32)) (σ : ST) (x5 : Int32) (x6 : Int32) (x8 : Int32) (x9 : Int64) (x11 : Int32) (x12 : Int32) (s0 : Int32) : Option (ST × Int32) :=
  ck (okI x11 14) (ck (okI x12 14) (ck (okI x11 14) (ck (okI x12 14) (lt1 ((gL σ 17 0 (Int32.toNatClampNeg x11) (Int32.toNatClampNeg x12)) + (gL σ 17 1 (Int32.toNatClampNeg x11) (Int32.toNatClampNeg x12))) (fun x13_5 => (if x8 = (-1) then C_X0_holds_b220 Δ kb125 kb135 σ x5 x6 s0 x11 x12 x13_5 else (if 0 < (lg_cmp x13_5 x9) then C_X0_holds_b220 Δ kb125 kb135 σ x5 x6 s0 x11 x12 x13_5 else C_X0_holds_b234 Δ kb125 kb135 σ x5 x6 s0 x8 x9 x11 x12)))))))
theorem w_C_X0_holds_b178 {Δ : DT} (X : FX p m c meth s args RX0 cX0_holds 15 (some .int)) (K : XK D d A s) {z : ST × Int32} {kb125 : ST → Int32 → Int32 → Int32 → Int32 → Int64 → Int32 → Option (ST × Int32)} (hkb125 : ∀ (σ : ST) (x5 : Int32) (x6 : Int32) (x7 : Int32) (x8 : Int32) (x9 : Int64) (x11 : Int32) (ls : Array Slot) (H : Heap) (locs : List Loc), XH D A s.heap (hC hs) (xct (LC Δ) (okC Δ) (hC hs) d σ) H locs → lv_has ls 15 [(0, .ref ((hC hs) 0 0 0)), (5, .int x5), (6, .int x6), (7, .int x7), (8, .int x8), (9, .long x9), (11, .int x11)] → kb125 σ x5 x6 x7 x8 x9 x11 = some z → W p l e (rmD 5 0 0) s m args below meth c H locs 0 0 (MQ below (Qi D (pz z) (cw (hC hs) (LC Δ) (okC Δ) d) A) args s 0 0 A) (F0 m 125 ls [])) {kb135 : ST → Int32 → Int32 → Int32 → Int32 → Int64 → Int32 → Int32 → Option (ST × Int32)} (hkb135 : ∀ (σ : ST) (x5 : Int32) (x6 : Int32) (x7 : Int32) (x8 : Int32) (x9 : Int64) (x11 : Int32) (x12 : Int32) (ls : Array Slot) (H : Heap) (locs : List Loc), XH D A s.heap (hC hs) (xct (LC Δ) (okC Δ) (hC hs) d σ) H locs → lv_has ls 15 [(0, .ref ((hC hs) 0 0 0)), (5, .int x5), (6, .int x6), (7, .int x7), (8, .int x8), (9, .long x9), (11, .int x11), (12, .int x12)] → kb135 σ x5 x6 x7 x8 x9 x11 x12 = some z → W p l e (rmD 5 0 0) s m args below meth c H locs 0 0 (MQ below (Qi D (pz z) (cw (hC hs) (LC Δ) (okC Δ) d) A) args s 0 0 A) (F0 m 135 ls [])) (σ : ST) (x5 : Int32) (x6 : Int32) (x8 : Int32) (x9 : Int64) (x11 : Int32) (x12 : Int32) (s0 : Int32) (ls : Array Slot) (H : Heap) (locs : List Loc) (O : XH D A s.heap (hC hs) (xct (LC Δ) (okC Δ) (hC hs) d σ) H locs) (hl : lv_has ls 15 [(0, .ref ((hC hs) 0 0 0)), (5, .int x5), (6, .int x6), (8, .int x8), (9, .long x9), (11, .int x11), (12, .int x12)]) (hf : C_X0_holds_b178 Δ kb125 kb135 σ x5 x6 x8 x9 x11 x12 s0 = some z) : W p l e (rmD 5 0 0) s m args below meth c H locs 0 0 (MQ below (Qi D (pz z) (cw (hC hs) (LC Δ) (okC Δ) d) A) args s 0 0 A) (F0 m 178 ls [.int s0]) := by
  have hx := X.1.1; have hb := X.1.2.1
  rw [C_X0_holds_b178] at hf
  refine lv_istore (lv' := [(7, .int s0), (0, .ref ((hC hs) 0 0 0)), (5, .int x5), (6, .int x6), (8, .int x8), (9, .long x9), (11, .int x11), (12, .int x12)]) hx hb dX0_holds_178 hl (by decide) rfl (fun ls hl => ?_)
  refine lv_aload_n hx hb dX0_holds_180 rfl (lv_at hl 1 rfl) ?_
  refine x_gF X K O 17 rfl LC_0 rfl rfl in_X0 (by decide) q391 dX0_holds_181 ?_
  refine lv_iload hx hb dX0_holds_184 (lv_at hl 6 rfl) ?_
  obtain ⟨c_1, hf⟩ := ck_s hf
  refine x_ald X K O 5 rfl LC_16 (by decide) rfl rfl c_1 (j := (Int32.toNatClampNeg x11)) rfl dX0_holds_186 ?_
  refine lv_iload hx hb dX0_holds_187 (lv_at hl 7 rfl) ?_
  obtain ⟨c_2, hf⟩ := ck_s hf
  refine x_lld X K O (oks_b (B := 1) (b := 0) rfl (okI_lt c_1)) LC_17 c_2 (j := (Int32.toNatClampNeg x12)) rfl dX0_holds_189 ?_
  refine lv_aload_n hx hb dX0_holds_190 rfl (lv_at hl 1 rfl) ?_
  refine x_gF X K O 18 rfl LC_0 rfl rfl in_X0 (by decide) q392 dX0_holds_191 ?_
  refine lv_iload hx hb dX0_holds_194 (lv_at hl 6 rfl) ?_
  obtain ⟨c_3, hf⟩ := ck_s hf
  refine x_ald X K O 5 rfl LC_16 (by decide) rfl rfl c_3 (j := (Int32.toNatClampNeg x11)) rfl dX0_holds_196 ?_
  refine lv_iload hx hb dX0_holds_197 (lv_at hl 7 rfl) ?_
  obtain ⟨c_4, hf⟩ := ck_s hf
  refine x_lld X K O (oks_b (B := 1) (b := 0) rfl (okI_lt c_3)) LC_17 c_4 (j := (Int32.toNatClampNeg x12)) rfl dX0_holds_199 ?_
  refine lv_ladd hx hb dX0_holds_200 ?_
  obtain ⟨x13_5, ex13_5, hf⟩ := lt1_s hf
  refine x_top (w := .long x13_5) (by rw [ex13_5]) ?_
  refine lv_lstore (lv' := [(13, .long x13_5), (7, .int s0), (0, .ref ((hC hs) 0 0 0)), (5, .int x5), (6, .int x6), (8, .int x8), (9, .long x9), (11, .int x11), (12, .int x12)]) hx hb dX0_holds_201 hl (by decide) rfl (fun ls hl => ?_)
  refine lv_iload hx hb dX0_holds_203 (lv_at hl 5 rfl) ?_
  refine lv_iconst (v := (-1)) hx hb dX0_holds_205 (by decide) ?_
  refine lv_icmp_eq (tgt := 220) hx hb dX0_holds_206 (by decide) (fun c_6 => ?_) (fun c_6 => ?_)
  · replace hf := if_t c_6 hf
    exact w_C_X0_holds_b220 X K hkb125 hkb135 _ _ _ _ _ _ _ ls _ _ O (lv_sub hl [2, 3, 4, 1, 7, 8, 0] rfl) hf
  · replace hf := if_f c_6 hf
    refine lv_lload hx hb dX0_holds_209 (lv_at hl 0 rfl) ?_
    refine lv_lload hx hb dX0_holds_211 (lv_at hl 6 rfl) ?_
    refine W.lcmp hx hb dX0_holds_213 ?_
    refine lv_if_gt (tgt := 220) hx hb dX0_holds_214 (by decide) (fun c_7 => ?_) (fun c_7 => ?_)
    · replace hf := if_t c_7 hf
      exact w_C_X0_holds_b220 X K hkb125 hkb135 _ _ _ _ _ _ _ ls _ _ O (lv_sub hl [2, 3, 4, 1, 7, 8, 0] rfl) hf
    · replace hf := if_f c_7 hf
      refine lv_goto (tgt := 234) hx hb dX0_holds_217 (by decide) ?_
      exact w_C_X0_holds_b234 X K hkb125 hkb135 _ _ _ _ _ _ _ _ ls _ _ O (lv_sub hl [2, 3, 4, 1, 5, 6, 7, 8] rfl) hf
def C_X0_holds_b135 (Δ : DT) (kb125 : ST → Int32 → Int32 → Int32 → Int32 → Int64 → Int32 → Option (ST × Int32)) : Nat → ST → Int32 → Int32 → Int32 → Int32 → Int64 → Int32 → Int32 → Option (ST × Int32)
  | 0, _, _, _, _, _, _, _, _ => none
  | n + 1, σ, x5, x6, x7, x8, x9, x11, x12 =>
    (if 13 < x12 then lt1 (x11 + 1) (fun x11_2 => kb125 σ x5 x6 x7 x8 x9 x11_2) else bn2 (C_X0_doesHold Δ σ x11 x12) (fun σ_3 r_4 => (if r_4 = 0 then C_X0_holds_b234 Δ kb125 (C_X0_holds_b135 Δ kb125 n) σ_3 x5 x6 x7 x8 x9 x11 x12 else lt1 (x6 + 1) (fun x6_6 => (if x7 = (-1) then C_X0_holds_b178 Δ kb125 (C_X0_holds_b135 Δ kb125 n) σ_3 x5 x6_6 x8 x9 x11 x12 ((20 * x11) + x12) else C_X0_holds_b178 Δ kb125 (C_X0_holds_b135 Δ kb125 n) σ_3 x5 x6_6 x8 x9 x11 x12 x7)))))
theorem w_C_X0_holds_b135 {Δ : DT} (X : FX p m c meth s args RX0 cX0_holds 15 (some .int)) (K : XK D d A s) {z : ST × Int32} {kb125 : ST → Int32 → Int32 → Int32 → Int32 → Int64 → Int32 → Option (ST × Int32)} (hkb125 : ∀ (σ : ST) (x5 : Int32) (x6 : Int32) (x7 : Int32) (x8 : Int32) (x9 : Int64) (x11 : Int32) (ls : Array Slot) (H : Heap) (locs : List Loc), XH D A s.heap (hC hs) (xct (LC Δ) (okC Δ) (hC hs) d σ) H locs → lv_has ls 15 [(0, .ref ((hC hs) 0 0 0)), (5, .int x5), (6, .int x6), (7, .int x7), (8, .int x8), (9, .long x9), (11, .int x11)] → kb125 σ x5 x6 x7 x8 x9 x11 = some z → W p l e (rmD 5 0 0) s m args below meth c H locs 0 0 (MQ below (Qi D (pz z) (cw (hC hs) (LC Δ) (okC Δ) d) A) args s 0 0 A) (F0 m 125 ls [])) : ∀ (n : Nat) (σ : ST) (x5 : Int32) (x6 : Int32) (x7 : Int32) (x8 : Int32) (x9 : Int64) (x11 : Int32) (x12 : Int32) (ls : Array Slot) (H : Heap) (locs : List Loc), XH D A s.heap (hC hs) (xct (LC Δ) (okC Δ) (hC hs) d σ) H locs → lv_has ls 15 [(0, .ref ((hC hs) 0 0 0)), (5, .int x5), (6, .int x6), (7, .int x7), (8, .int x8), (9, .long x9), (11, .int x11), (12, .int x12)] → C_X0_holds_b135 Δ kb125 n σ x5 x6 x7 x8 x9 x11 x12 = some z → W p l e (rmD 5 0 0) s m args below meth c H locs 0 0 (MQ below (Qi D (pz z) (cw (hC hs) (LC Δ) (okC Δ) d) A) args s 0 0 A) (F0 m 135 ls []) := by
  have hx := X.1.1; have hb := X.1.2.1
  intro n
  induction n with
  | zero =>
    intro σ x5 x6 x7 x8 x9 x11 x12 ls H locs O hl hf
    exact absurd hf (fun q => by cases q)
  | succ n ih =>
    intro σ x5 x6 x7 x8 x9 x11 x12 ls H locs O hl hf
    rw [C_X0_holds_b135] at hf
    refine lv_iload hx hb dX0_holds_135 (lv_at hl 7 rfl) ?_
    refine lv_bipush (v := 13) hx hb dX0_holds_137 (by decide) ?_
    refine lv_icmp_gt (tgt := 240) hx hb dX0_holds_139 (by decide) (fun c_1 => ?_) (fun c_1 => ?_)
    · replace hf := if_t c_1 hf
      obtain ⟨x11_2, ex11_2, hf⟩ := lt1_s hf
      refine lv_iinc (v := x11_2) (lv' := [(11, .int x11_2), (0, .ref ((hC hs) 0 0 0)), (5, .int x5), (6, .int x6), (7, .int x7), (8, .int x8), (9, .long x9), (12, .int x12)]) hx hb dX0_holds_240 hl (k := 6) rfl (by rw [ex11_2]; rfl) (by decide) rfl (fun ls hl => ?_)
      refine lv_goto (tgt := 125) hx hb dX0_holds_243 (by decide) ?_
      exact hkb125 _ _ _ _ _ _ _ ls _ _ O (lv_sub hl [1, 2, 3, 4, 5, 6, 0] rfl) hf
    · replace hf := if_f c_1 hf
      refine lv_aload_n hx hb dX0_holds_142 rfl (lv_at hl 0 rfl) ?_
      refine lv_iload hx hb dX0_holds_143 (lv_at hl 6 rfl) ?_
      refine lv_iload hx hb dX0_holds_145 (lv_at hl 7 rfl) ?_
      obtain ⟨σ_3, r_4, hg, hf⟩ := bn2_s hf
      refine x_calli (x_runV (As := [.int x11, .int x12]) (rest := []) X K O (xct_obj rfl LC_0) rfl (m_C_X0_doesHold hg) EN_b EN_h (lw_V q1023 q1025 qs39 q111 q1026) 2 rfl hl.1 (Nat.le_of_ble_eq_true rfl) hdV_X0_doesHold ⟨by decide, by decide⟩ ⟨Nat.le_refl _, Nat.le_refl _⟩ dX0_holds_147) (fun r u H locs hp O _ => ?_)
      cases hp
      have O : XH D A s.heap (hC hs) (xct (LC Δ) (okC Δ) (hC hs) d σ_3) H locs := O
      refine lv_if_ne (tgt := 156) hx hb dX0_holds_150 (by decide) (fun c_5 => ?_) (fun c_5 => ?_)
      · replace hf := if_f c_5 hf
        obtain ⟨x6_6, ex6_6, hf⟩ := lt1_s hf
        refine lv_iinc (v := x6_6) (lv' := [(6, .int x6_6), (0, .ref ((hC hs) 0 0 0)), (5, .int x5), (7, .int x7), (8, .int x8), (9, .long x9), (11, .int x11), (12, .int x12)]) hx hb dX0_holds_156 hl (k := 2) rfl (by rw [ex6_6]; rfl) (by decide) rfl (fun ls hl => ?_)
        refine lv_iload hx hb dX0_holds_159 (lv_at hl 3 rfl) ?_
        refine lv_iconst (v := (-1)) hx hb dX0_holds_161 (by decide) ?_
        refine lv_icmp_ne (tgt := 176) hx hb dX0_holds_162 (by decide) (fun c_7 => ?_) (fun c_7 => ?_)
        · replace hf := if_f c_7 hf
          refine lv_iload hx hb dX0_holds_176 (lv_at hl 3 rfl) ?_
          exact w_C_X0_holds_b178 X K hkb125 ih _ _ _ _ _ _ _ _ ls _ _ O (lv_sub hl [1, 2, 0, 4, 5, 6, 7] rfl) hf
        · replace hf := if_t c_7 hf
          refine lv_bipush (v := 20) hx hb dX0_holds_165 (by decide) ?_
          refine lv_iload hx hb dX0_holds_167 (lv_at hl 6 rfl) ?_
          refine lv_imul hx hb dX0_holds_169 ?_
          refine lv_iload hx hb dX0_holds_170 (lv_at hl 7 rfl) ?_
          refine lv_iadd hx hb dX0_holds_172 ?_
          refine lv_goto (tgt := 178) hx hb dX0_holds_173 (by decide) ?_
          exact w_C_X0_holds_b178 X K hkb125 ih _ _ _ _ _ _ _ _ ls _ _ O (lv_sub hl [1, 2, 0, 4, 5, 6, 7] rfl) hf
      · replace hf := if_t c_5 hf
        refine lv_goto (tgt := 234) hx hb dX0_holds_153 (by decide) ?_
        exact w_C_X0_holds_b234 X K hkb125 ih _ _ _ _ _ _ _ _ ls _ _ O (lv_sub hl [0, 1, 2, 3, 4, 5, 6, 7] rfl) hf
def C_X0_holds_b125 (Δ : DT) : Nat → ST → Int32 → Int32 → Int32 → Int32 → Int64 → Int32 → Option (ST × Int32)
  | 0, _, _, _, _, _, _, _ => none
  | n + 1, σ, x5, x6, x7, x8, x9, x11 =>
    (if 13 < x11 then (if x5 = 0 then some (σ, x6) else (if x5 = 1 then some (σ, x7) else some (σ, x8))) else C_X0_holds_b135 Δ (C_X0_holds_b125 Δ n) FUEL σ x5 x6 x7 x8 x9 x11 1)
theorem w_C_X0_holds_b125 {Δ : DT} (X : FX p m c meth s args RX0 cX0_holds 15 (some .int)) (K : XK D d A s) {z : ST × Int32} : ∀ (n : Nat) (σ : ST) (x5 : Int32) (x6 : Int32) (x7 : Int32) (x8 : Int32) (x9 : Int64) (x11 : Int32) (ls : Array Slot) (H : Heap) (locs : List Loc), XH D A s.heap (hC hs) (xct (LC Δ) (okC Δ) (hC hs) d σ) H locs → lv_has ls 15 [(0, .ref ((hC hs) 0 0 0)), (5, .int x5), (6, .int x6), (7, .int x7), (8, .int x8), (9, .long x9), (11, .int x11)] → C_X0_holds_b125 Δ n σ x5 x6 x7 x8 x9 x11 = some z → W p l e (rmD 5 0 0) s m args below meth c H locs 0 0 (MQ below (Qi D (pz z) (cw (hC hs) (LC Δ) (okC Δ) d) A) args s 0 0 A) (F0 m 125 ls []) := by
  have hx := X.1.1; have hb := X.1.2.1
  intro n
  induction n with
  | zero =>
    intro σ x5 x6 x7 x8 x9 x11 ls H locs O hl hf
    exact absurd hf (fun q => by cases q)
  | succ n ih =>
    intro σ x5 x6 x7 x8 x9 x11 ls H locs O hl hf
    rw [C_X0_holds_b125] at hf
    refine lv_iload hx hb dX0_holds_125 (lv_at hl 6 rfl) ?_
    refine lv_bipush (v := 13) hx hb dX0_holds_127 (by decide) ?_
    refine lv_icmp_gt (tgt := 246) hx hb dX0_holds_129 (by decide) (fun c_1 => ?_) (fun c_1 => ?_)
    · replace hf := if_t c_1 hf
      refine lv_iload hx hb dX0_holds_246 (lv_at hl 1 rfl) ?_
      refine lv_if_ne (tgt := 256) hx hb dX0_holds_248 (by decide) (fun c_2 => ?_) (fun c_2 => ?_)
      · replace hf := if_f c_2 hf
        refine lv_iload hx hb dX0_holds_256 (lv_at hl 1 rfl) ?_
        refine lv_iconst (v := 1) hx hb dX0_holds_258 (by decide) ?_
        refine lv_icmp_ne (tgt := 267) hx hb dX0_holds_259 (by decide) (fun c_3 => ?_) (fun c_3 => ?_)
        · replace hf := if_f c_3 hf
          refine lv_iload hx hb dX0_holds_267 (lv_at hl 4 rfl) ?_
          exact x_iret X O rfl _ (Option.some.inj hf).symm rfl dX0_holds_269
        · replace hf := if_t c_3 hf
          refine lv_iload hx hb dX0_holds_262 (lv_at hl 3 rfl) ?_
          refine lv_goto (tgt := 269) hx hb dX0_holds_264 (by decide) ?_
          exact x_iret X O rfl _ (Option.some.inj hf).symm rfl dX0_holds_269
      · replace hf := if_t c_2 hf
        refine lv_iload hx hb dX0_holds_251 (lv_at hl 2 rfl) ?_
        refine lv_goto (tgt := 269) hx hb dX0_holds_253 (by decide) ?_
        exact x_iret X O rfl _ (Option.some.inj hf).symm rfl dX0_holds_269
    · replace hf := if_f c_1 hf
      refine lv_iconst (v := 1) hx hb dX0_holds_132 (by decide) ?_
      refine lv_istore (lv' := [(12, .int 1), (0, .ref ((hC hs) 0 0 0)), (5, .int x5), (6, .int x6), (7, .int x7), (8, .int x8), (9, .long x9), (11, .int x11)]) hx hb dX0_holds_133 hl (by decide) rfl (fun ls hl => ?_)
      exact w_C_X0_holds_b135 X K ih _ _ _ _ _ _ _ _ _ ls _ _ O (lv_sub hl [1, 2, 3, 4, 5, 6, 7, 0] rfl) hf
def C_X0_holds_b37 (Δ : DT) (kb27 : ST → Int32 → Int32 → Int32 → Int32 → Int32 → Int32 → Option (ST × Int32)) : Nat → ST → Int32 → Int32 → Int32 → Int32 → Int32 → Int32 → Int32 → Option (ST × Int32)
  | 0, _, _, _, _, _, _, _, _ => none
  | n + 1, σ, x1, x2, x3, x4, x5, x6, x7 =>
    (if 13 < x7 then lt1 (x6 + 1) (fun x6_2 => kb27 σ x1 x2 x3 x4 x5 x6_2) else bn1 (C_X5_leads Δ σ x1 x2 x3 x4 x6 x7) (fun σ_3 => ck (okI x6 14) (ck (okI x7 14) (lt1 (sL σ_3 17 0 (Int32.toNatClampNeg x6) (Int32.toNatClampNeg x7) (gL σ_3 13 1 0 0)) (fun σ_6 => ck (okI x6 14) (ck (okI x7 14) (lt1 (sL σ_6 17 1 (Int32.toNatClampNeg x6) (Int32.toNatClampNeg x7) (gL σ_6 13 1 0 1)) (fun σ_9 => lt1 (x7 + 1) (fun x7_10 => (C_X0_holds_b37 Δ kb27 n) σ_9 x1 x2 x3 x4 x5 x6 x7_10)))))))))
theorem w_C_X0_holds_b37 {Δ : DT} (X : FX p m c meth s args RX0 cX0_holds 15 (some .int)) (K : XK D d A s) {z : ST × Int32} {kb27 : ST → Int32 → Int32 → Int32 → Int32 → Int32 → Int32 → Option (ST × Int32)} (hkb27 : ∀ (σ : ST) (x1 : Int32) (x2 : Int32) (x3 : Int32) (x4 : Int32) (x5 : Int32) (x6 : Int32) (ls : Array Slot) (H : Heap) (locs : List Loc), XH D A s.heap (hC hs) (xct (LC Δ) (okC Δ) (hC hs) d σ) H locs → lv_has ls 15 [(0, .ref ((hC hs) 0 0 0)), (1, .int x1), (2, .int x2), (3, .int x3), (4, .int x4), (5, .int x5), (6, .int x6)] → kb27 σ x1 x2 x3 x4 x5 x6 = some z → W p l e (rmD 5 0 0) s m args below meth c H locs 0 0 (MQ below (Qi D (pz z) (cw (hC hs) (LC Δ) (okC Δ) d) A) args s 0 0 A) (F0 m 27 ls [])) : ∀ (n : Nat) (σ : ST) (x1 : Int32) (x2 : Int32) (x3 : Int32) (x4 : Int32) (x5 : Int32) (x6 : Int32) (x7 : Int32) (ls : Array Slot) (H : Heap) (locs : List Loc), XH D A s.heap (hC hs) (xct (LC Δ) (okC Δ) (hC hs) d σ) H locs → lv_has ls 15 [(0, .ref ((hC hs) 0 0 0)), (1, .int x1), (2, .int x2), (3, .int x3), (4, .int x4), (5, .int x5), (6, .int x6), (7, .int x7)] → C_X0_holds_b37 Δ kb27 n σ x1 x2 x3 x4 x5 x6 x7 = some z → W p l e (rmD 5 0 0) s m args below meth c H locs 0 0 (MQ below (Qi D (pz z) (cw (hC hs) (LC Δ) (okC Δ) d) A) args s 0 0 A) (F0 m 37 ls []) := by
  have hx := X.1.1; have hb := X.1.2.1
  intro n
  induction n with
  | zero =>
    intro σ x1 x2 x3 x4 x5 x6 x7 ls H locs O hl hf
    exact absurd hf (fun q => by cases q)
  | succ n ih =>
    intro σ x1 x2 x3 x4 x5 x6 x7 ls H locs O hl hf
    rw [C_X0_holds_b37] at hf
    refine lv_iload hx hb dX0_holds_37 (lv_at hl 7 rfl) ?_
    refine lv_bipush (v := 13) hx hb dX0_holds_39 (by decide) ?_
    refine lv_icmp_gt (tgt := 104) hx hb dX0_holds_41 (by decide) (fun c_1 => ?_) (fun c_1 => ?_)
    · replace hf := if_t c_1 hf
      obtain ⟨x6_2, ex6_2, hf⟩ := lt1_s hf
      refine lv_iinc (v := x6_2) (lv' := [(6, .int x6_2), (0, .ref ((hC hs) 0 0 0)), (1, .int x1), (2, .int x2), (3, .int x3), (4, .int x4), (5, .int x5), (7, .int x7)]) hx hb dX0_holds_104 hl (k := 6) rfl (by rw [ex6_2]; rfl) (by decide) rfl (fun ls hl => ?_)
      refine lv_goto (tgt := 27) hx hb dX0_holds_107 (by decide) ?_
      exact hkb27 _ _ _ _ _ _ _ ls _ _ O (lv_sub hl [1, 2, 3, 4, 5, 6, 0] rfl) hf
    · replace hf := if_f c_1 hf
      refine lv_aload_n hx hb dX0_holds_44 rfl (lv_at hl 0 rfl) ?_
      refine x_gF X K O 16 rfl LC_0 rfl rfl in_X0 (by decide) q390 dX0_holds_45 ?_
      refine lv_iload_n hx hb dX0_holds_48 rfl (lv_at hl 1 rfl) ?_
      refine lv_iload_n hx hb dX0_holds_49 rfl (lv_at hl 2 rfl) ?_
      refine lv_iload_n hx hb dX0_holds_50 rfl (lv_at hl 3 rfl) ?_
      refine lv_iload hx hb dX0_holds_51 (lv_at hl 4 rfl) ?_
      refine lv_iload hx hb dX0_holds_53 (lv_at hl 6 rfl) ?_
      refine lv_iload hx hb dX0_holds_55 (lv_at hl 7 rfl) ?_
      obtain ⟨σ_3, hg, hf⟩ := bn1_s hf
      refine x_callv (x_runV (As := [.int x1, .int x2, .int x3, .int x4, .int x6, .int x7]) (rest := []) X K O (xct_obj rfl LC_3) rfl (m_C_X5_leads hg) EN_b EN_h (lw_V q996 q997 q998 q123 q999) 6 rfl hl.1 (Nat.le_of_ble_eq_true rfl) hdV_X5_leads ⟨by decide, by decide⟩ ⟨Nat.le_refl _, Nat.le_refl _⟩ dX0_holds_57) (fun u H locs hp O _ => ?_)
      cases hp
      have O : XH D A s.heap (hC hs) (xct (LC Δ) (okC Δ) (hC hs) d σ_3) H locs := O
      refine lv_aload_n hx hb dX0_holds_60 rfl (lv_at hl 0 rfl) ?_
      refine x_gF X K O 17 rfl LC_0 rfl rfl in_X0 (by decide) q391 dX0_holds_61 ?_
      refine lv_iload hx hb dX0_holds_64 (lv_at hl 6 rfl) ?_
      obtain ⟨c_4, hf⟩ := ck_s hf
      refine x_ald X K O 5 rfl LC_16 (by decide) rfl rfl c_4 (j := (Int32.toNatClampNeg x6)) rfl dX0_holds_66 ?_
      refine lv_iload hx hb dX0_holds_67 (lv_at hl 7 rfl) ?_
      refine lv_aload_n hx hb dX0_holds_69 rfl (lv_at hl 0 rfl) ?_
      refine x_gF X K O 16 rfl LC_0 rfl rfl in_X0 (by decide) q390 dX0_holds_70 ?_
      refine x_gFN X K O 3 rfl LC_3 rfl rfl in_X5 (by decide) q346 dX0_holds_73 ?_
      refine lv_iconst (v := 0) hx hb dX0_holds_76 (by decide) ?_
      refine x_lld X K O rfl LC_13 (by decide) (j := 0) rfl dX0_holds_77 ?_
      obtain ⟨c_5, hf⟩ := ck_s hf
      obtain ⟨σ_6, eσ_6, hf⟩ := lt1_s hf
      refine x_lst X K O (oks_b (B := 1) (b := 0) rfl (okI_lt c_4)) LC_17 c_5 (j := (Int32.toNatClampNeg x7)) rfl dX0_holds_78 (fun H locs O => ?_)
      rw [← eσ_6] at O
      refine lv_aload_n hx hb dX0_holds_79 rfl (lv_at hl 0 rfl) ?_
      refine x_gF X K O 18 rfl LC_0 rfl rfl in_X0 (by decide) q392 dX0_holds_80 ?_
      refine lv_iload hx hb dX0_holds_83 (lv_at hl 6 rfl) ?_
      obtain ⟨c_7, hf⟩ := ck_s hf
      refine x_ald X K O 5 rfl LC_16 (by decide) rfl rfl c_7 (j := (Int32.toNatClampNeg x6)) rfl dX0_holds_85 ?_
      refine lv_iload hx hb dX0_holds_86 (lv_at hl 7 rfl) ?_
      refine lv_aload_n hx hb dX0_holds_88 rfl (lv_at hl 0 rfl) ?_
      refine x_gF X K O 16 rfl LC_0 rfl rfl in_X0 (by decide) q390 dX0_holds_89 ?_
      refine x_gFN X K O 3 rfl LC_3 rfl rfl in_X5 (by decide) q346 dX0_holds_92 ?_
      refine lv_iconst (v := 1) hx hb dX0_holds_95 (by decide) ?_
      refine x_lld X K O rfl LC_13 (by decide) (j := 1) rfl dX0_holds_96 ?_
      obtain ⟨c_8, hf⟩ := ck_s hf
      obtain ⟨σ_9, eσ_9, hf⟩ := lt1_s hf
      refine x_lst X K O (oks_b (B := 1) (b := 0) rfl (okI_lt c_7)) LC_17 c_8 (j := (Int32.toNatClampNeg x7)) rfl dX0_holds_97 (fun H locs O => ?_)
      rw [← eσ_9] at O
      obtain ⟨x7_10, ex7_10, hf⟩ := lt1_s hf
      refine lv_iinc (v := x7_10) (lv' := [(7, .int x7_10), (0, .ref ((hC hs) 0 0 0)), (1, .int x1), (2, .int x2), (3, .int x3), (4, .int x4), (5, .int x5), (6, .int x6)]) hx hb dX0_holds_98 hl (k := 7) rfl (by rw [ex7_10]; rfl) (by decide) rfl (fun ls hl => ?_)
      refine lv_goto (tgt := 37) hx hb dX0_holds_101 (by decide) ?_
      exact ih _ _ _ _ _ _ _ _ ls _ _ O (lv_sub hl [1, 2, 3, 4, 5, 6, 7, 0] rfl) hf
def C_X0_holds_b27 (Δ : DT) : Nat → ST → Int32 → Int32 → Int32 → Int32 → Int32 → Int32 → Option (ST × Int32)
  | 0, _, _, _, _, _, _, _ => none
  | n + 1, σ, x1, x2, x3, x4, x5, x6 =>
    (if 13 < x6 then C_X0_holds_b125 Δ FUEL σ x5 0 (-1) (-1) 0 1 else C_X0_holds_b37 Δ (C_X0_holds_b27 Δ n) FUEL σ x1 x2 x3 x4 x5 x6 1)
theorem w_C_X0_holds_b27 {Δ : DT} (X : FX p m c meth s args RX0 cX0_holds 15 (some .int)) (K : XK D d A s) {z : ST × Int32} : ∀ (n : Nat) (σ : ST) (x1 : Int32) (x2 : Int32) (x3 : Int32) (x4 : Int32) (x5 : Int32) (x6 : Int32) (ls : Array Slot) (H : Heap) (locs : List Loc), XH D A s.heap (hC hs) (xct (LC Δ) (okC Δ) (hC hs) d σ) H locs → lv_has ls 15 [(0, .ref ((hC hs) 0 0 0)), (1, .int x1), (2, .int x2), (3, .int x3), (4, .int x4), (5, .int x5), (6, .int x6)] → C_X0_holds_b27 Δ n σ x1 x2 x3 x4 x5 x6 = some z → W p l e (rmD 5 0 0) s m args below meth c H locs 0 0 (MQ below (Qi D (pz z) (cw (hC hs) (LC Δ) (okC Δ) d) A) args s 0 0 A) (F0 m 27 ls []) := by
  have hx := X.1.1; have hb := X.1.2.1
  intro n
  induction n with
  | zero =>
    intro σ x1 x2 x3 x4 x5 x6 ls H locs O hl hf
    exact absurd hf (fun q => by cases q)
  | succ n ih =>
    intro σ x1 x2 x3 x4 x5 x6 ls H locs O hl hf
    rw [C_X0_holds_b27] at hf
    refine lv_iload hx hb dX0_holds_27 (lv_at hl 6 rfl) ?_
    refine lv_bipush (v := 13) hx hb dX0_holds_29 (by decide) ?_
    refine lv_icmp_gt (tgt := 110) hx hb dX0_holds_31 (by decide) (fun c_1 => ?_) (fun c_1 => ?_)
    · replace hf := if_t c_1 hf
      refine lv_iconst (v := 0) hx hb dX0_holds_110 (by decide) ?_
      refine lv_istore (lv' := [(6, .int 0), (0, .ref ((hC hs) 0 0 0)), (1, .int x1), (2, .int x2), (3, .int x3), (4, .int x4), (5, .int x5)]) hx hb dX0_holds_111 hl (by decide) rfl (fun ls hl => ?_)
      refine lv_iconst (v := (-1)) hx hb dX0_holds_113 (by decide) ?_
      refine lv_istore (lv' := [(7, .int (-1)), (6, .int 0), (0, .ref ((hC hs) 0 0 0)), (1, .int x1), (2, .int x2), (3, .int x3), (4, .int x4), (5, .int x5)]) hx hb dX0_holds_114 hl (by decide) rfl (fun ls hl => ?_)
      refine lv_iconst (v := (-1)) hx hb dX0_holds_116 (by decide) ?_
      refine lv_istore (lv' := [(8, .int (-1)), (7, .int (-1)), (6, .int 0), (0, .ref ((hC hs) 0 0 0)), (1, .int x1), (2, .int x2), (3, .int x3), (4, .int x4), (5, .int x5)]) hx hb dX0_holds_117 hl (by decide) rfl (fun ls hl => ?_)
      refine lv_lconst (v := 0) hx hb dX0_holds_119 (by decide) ?_
      refine lv_lstore (lv' := [(9, .long 0), (8, .int (-1)), (7, .int (-1)), (6, .int 0), (0, .ref ((hC hs) 0 0 0)), (1, .int x1), (2, .int x2), (3, .int x3), (4, .int x4), (5, .int x5)]) hx hb dX0_holds_120 hl (by decide) rfl (fun ls hl => ?_)
      refine lv_iconst (v := 1) hx hb dX0_holds_122 (by decide) ?_
      refine lv_istore (lv' := [(11, .int 1), (9, .long 0), (8, .int (-1)), (7, .int (-1)), (6, .int 0), (0, .ref ((hC hs) 0 0 0)), (1, .int x1), (2, .int x2), (3, .int x3), (4, .int x4), (5, .int x5)]) hx hb dX0_holds_123 hl (by decide) rfl (fun ls hl => ?_)
      exact w_C_X0_holds_b125 X K _ _ _ _ _ _ _ _ ls _ _ O (lv_sub hl [5, 10, 4, 3, 2, 1, 0] rfl) hf
    · replace hf := if_f c_1 hf
      refine lv_iconst (v := 1) hx hb dX0_holds_34 (by decide) ?_
      refine lv_istore (lv' := [(7, .int 1), (0, .ref ((hC hs) 0 0 0)), (1, .int x1), (2, .int x2), (3, .int x3), (4, .int x4), (5, .int x5), (6, .int x6)]) hx hb dX0_holds_35 hl (by decide) rfl (fun ls hl => ?_)
      exact w_C_X0_holds_b37 X K ih _ _ _ _ _ _ _ _ _ ls _ _ O (lv_sub hl [1, 2, 3, 4, 5, 6, 7, 0] rfl) hf
def C_X0_holds (Δ : DT) (σ : ST) (p1 : Int32) (p2 : Int32) (p3 : Int32) (p4 : Int32) (p5 : Int32) : Option (ST × Int32) :=
  bn2 (C_X0_isPair Δ σ p1 p2 p3 p4) (fun σ_1 r_2 => (if r_2 = 0 then some (σ_1, (-1)) else bn2 (C_X0_isIn Δ σ_1 p5 0 2) (fun σ_4 r_5 => (if r_5 = 0 then some (σ_4, (-1)) else C_X0_holds_b27 Δ FUEL σ_4 p1 p2 p3 p4 p5 1))))
theorem m_C_X0_holds {l : Launch} {D : va_G} {d : Nat → ClassId} {hs : IX} {Δ : DT} {p1 : Int32} {p2 : Int32} {p3 : Int32} {p4 : Int32} {p5 : Int32} {σ : ST} {z : ST × Int32} (hf : C_X0_holds Δ σ p1 p2 p3 p4 p5 = some z) : XM l D d EN yX0_holds cX0_holds 15 (some .int) 5 0 0 [.ref ((hC hs) 0 0 0), .int p1, .int p2, .int p3, .int p4, .int p5] (hC hs) (xct (LC Δ) (okC Δ) (hC hs) d σ) (Qi D (pz z) (cw (hC hs) (LC Δ) (okC Δ) d)) := by
  refine XM.of (by decide +kernel) (Nat.le_of_ble_eq_true rfl) ?_
  intro p e s m below meth c A ls X _ K _ O hl
  have hl : lv_has ls 15 [(0, .ref ((hC hs) 0 0 0)), (1, .int p1), (2, .int p2), (3, .int p3), (4, .int p4), (5, .int p5)] := hl
  have hx := X.1.1; have hb := X.1.2.1
  rw [C_X0_holds] at hf
  refine lv_aload_n hx hb dX0_holds_0 rfl (lv_at hl 0 rfl) ?_
  refine lv_iload_n hx hb dX0_holds_1 rfl (lv_at hl 1 rfl) ?_
  refine lv_iload_n hx hb dX0_holds_2 rfl (lv_at hl 2 rfl) ?_
  refine lv_iload_n hx hb dX0_holds_3 rfl (lv_at hl 3 rfl) ?_
  refine lv_iload hx hb dX0_holds_4 (lv_at hl 4 rfl) ?_
  obtain ⟨σ_1, r_2, hg, hf⟩ := bn2_s hf
  refine x_calli (x_runV (As := [.int p1, .int p2, .int p3, .int p4]) (rest := []) X K O (xct_obj rfl LC_0) rfl (m_C_X0_isPair hg) EN_b EN_h (lw_V q992 q994 qs35 q111 q995) 4 rfl hl.1 (Nat.le_of_ble_eq_true rfl) hdV_X0_isPair ⟨by decide, by decide⟩ ⟨Nat.le_refl _, Nat.le_refl _⟩ dX0_holds_6) (fun r u H locs hp O _ => ?_)
  cases hp
  have O : XH D A s.heap (hC hs) (xct (LC Δ) (okC Δ) (hC hs) d σ_1) H locs := O
  refine lv_if_eq (tgt := 22) hx hb dX0_holds_9 (by decide) (fun c_3 => ?_) (fun c_3 => ?_)
  · replace hf := if_t c_3 hf
    refine lv_iconst (v := (-1)) hx hb dX0_holds_22 (by decide) ?_
    exact x_iret X O rfl _ (Option.some.inj hf).symm rfl dX0_holds_23
  · replace hf := if_f c_3 hf
    refine lv_iload hx hb dX0_holds_12 (lv_at hl 5 rfl) ?_
    refine lv_iconst (v := 0) hx hb dX0_holds_14 (by decide) ?_
    refine lv_iconst (v := 2) hx hb dX0_holds_15 (by decide) ?_
    obtain ⟨σ_4, r_5, hg, hf⟩ := bn2_s hf
    refine x_calli (x_runS (As := [.int p5, .int 0, .int 2]) (rest := []) X K O (m_C_X0_isIn hg) EN_b EN_h (lw_S q444 q445 q111 q446) 3 rfl hl.1 (Nat.le_of_ble_eq_true rfl) hdS_X0_isIn ⟨by decide, by decide⟩ ⟨Nat.le_refl _, Nat.le_refl _⟩ dX0_holds_16) (fun r u H locs hp O _ => ?_)
    cases hp
    have O : XH D A s.heap (hC hs) (xct (LC Δ) (okC Δ) (hC hs) d σ_4) H locs := O
    refine lv_if_ne (tgt := 24) hx hb dX0_holds_19 (by decide) (fun c_6 => ?_) (fun c_6 => ?_)
    · replace hf := if_f c_6 hf
      refine lv_iconst (v := 1) hx hb dX0_holds_24 (by decide) ?_
      refine lv_istore (lv' := [(6, .int 1), (0, .ref ((hC hs) 0 0 0)), (1, .int p1), (2, .int p2), (3, .int p3), (4, .int p4), (5, .int p5)]) hx hb dX0_holds_25 hl (by decide) rfl (fun ls hl => ?_)
      exact w_C_X0_holds_b27 X K _ _ _ _ _ _ _ _ ls _ _ O (lv_sub hl [1, 2, 3, 4, 5, 6, 0] rfl) hf
    · replace hf := if_t c_6 hf
      refine lv_iconst (v := (-1)) hx hb dX0_holds_22 (by decide) ?_
      exact x_iret X O rfl _ (Option.some.inj hf).symm rfl dX0_holds_23
def C_X0_value_b37 (Δ : DT) (σ : ST) (x1 : Int32) (x3 : Int32) (x4 : Int32) (s0 : Int32) (s2 : Int32) (s3 : Int32) : Option (ST × Int32) :=
  bn2 (C_X1_worth Δ 0 σ s2 s3) (fun σ_1 r_2 => lt1 ((s0 * r_2) * x3) (fun x5_3 => (if x1 = 2 then (if x4 = 0 then some (σ_1, (x5_3 - (((gI σ_1 4 0 0 5) * (gI σ_1 4 0 0 4)) * x3))) else some (σ_1, x5_3)) else some (σ_1, x5_3))))
theorem w_C_X0_value_b37 {Δ : DT} (X : FX p m c meth s args RX0 cX0_value 6 (some .int)) (K : XK D d A s) {z : ST × Int32} (σ : ST) (x1 : Int32) (x3 : Int32) (x4 : Int32) (s0 : Int32) (s2 : Int32) (s3 : Int32) (ls : Array Slot) (H : Heap) (locs : List Loc) (O : XH D A s.heap (hC hs) (xct (LC Δ) (okC Δ) (hC hs) d σ) H locs) (hl : lv_has ls 6 [(0, .ref ((hC hs) 0 0 0)), (1, .int x1), (3, .int x3), (4, .int x4)]) (hf : C_X0_value_b37 Δ σ x1 x3 x4 s0 s2 s3 = some z) : W p l e (rmD 1 0 0) s m args below meth c H locs 0 0 (MQ below (Qi D (pz z) (cw (hC hs) (LC Δ) (okC Δ) d) A) args s 0 0 A) (F0 m 37 ls [.int s3, .int s2, .ref ((hC hs) 1 0 0), .int s0]) := by
  have hx := X.1.1; have hb := X.1.2.1
  rw [C_X0_value_b37] at hf
  obtain ⟨σ_1, r_2, hg, hf⟩ := bn2_s hf
  refine x_calli (x_runV (As := [.int s2, .int s3]) (rest := [.int s0]) X K O (xct_obj rfl LC_1) rfl (m_C_X1_worth rfl hg) EN_b EN_h (lw_V q1035 q890 q891 q119 q892) 2 rfl hl.1 (Nat.le_of_ble_eq_true rfl) hdV_X1_worth ⟨by decide, by decide⟩ ⟨Nat.le_refl _, Nat.le_refl _⟩ dX0_value_37) (fun r u H locs hp O _ => ?_)
  cases hp
  have O : XH D A s.heap (hC hs) (xct (LC Δ) (okC Δ) (hC hs) d σ_1) H locs := O
  refine lv_imul hx hb dX0_value_40 ?_
  refine lv_iload_n hx hb dX0_value_41 rfl (lv_at hl 2 rfl) ?_
  refine lv_imul hx hb dX0_value_42 ?_
  obtain ⟨x5_3, ex5_3, hf⟩ := lt1_s hf
  refine x_top (w := .int x5_3) (by rw [ex5_3]) ?_
  refine lv_istore (lv' := [(5, .int x5_3), (0, .ref ((hC hs) 0 0 0)), (1, .int x1), (3, .int x3), (4, .int x4)]) hx hb dX0_value_43 hl (by decide) rfl (fun ls hl => ?_)
  refine lv_iload_n hx hb dX0_value_45 rfl (lv_at hl 2 rfl) ?_
  refine lv_iconst (v := 2) hx hb dX0_value_46 (by decide) ?_
  refine lv_icmp_ne (tgt := 82) hx hb dX0_value_47 (by decide) (fun c_4 => ?_) (fun c_4 => ?_)
  · replace hf := if_f c_4 hf
    refine lv_iload hx hb dX0_value_82 (lv_at hl 0 rfl) ?_
    exact x_iret X O rfl _ (Option.some.inj hf).symm rfl dX0_value_84
  · replace hf := if_t c_4 hf
    refine lv_iload hx hb dX0_value_50 (lv_at hl 4 rfl) ?_
    refine lv_if_ne (tgt := 82) hx hb dX0_value_52 (by decide) (fun c_5 => ?_) (fun c_5 => ?_)
    · replace hf := if_f c_5 hf
      refine lv_iload hx hb dX0_value_82 (lv_at hl 0 rfl) ?_
      exact x_iret X O rfl _ (Option.some.inj hf).symm rfl dX0_value_84
    · replace hf := if_t c_5 hf
      refine lv_iload hx hb dX0_value_55 (lv_at hl 0 rfl) ?_
      refine lv_aload_n hx hb dX0_value_57 rfl (lv_at hl 1 rfl) ?_
      refine x_gF X K O 6 rfl LC_0 rfl rfl in_X0 (by decide) q379 dX0_value_58 ?_
      refine x_gFN X K O 2 rfl LC_1 rfl rfl in_X1 (by decide) q300 dX0_value_61 ?_
      refine lv_iconst (v := 5) hx hb dX0_value_64 (by decide) ?_
      refine x_ild X K O rfl LC_4 (by decide) (j := 5) rfl dX0_value_65 ?_
      refine lv_aload_n hx hb dX0_value_66 rfl (lv_at hl 1 rfl) ?_
      refine x_gF X K O 6 rfl LC_0 rfl rfl in_X0 (by decide) q379 dX0_value_67 ?_
      refine x_gFN X K O 2 rfl LC_1 rfl rfl in_X1 (by decide) q300 dX0_value_70 ?_
      refine lv_iconst (v := 4) hx hb dX0_value_73 (by decide) ?_
      refine x_ild X K O rfl LC_4 (by decide) (j := 4) rfl dX0_value_74 ?_
      refine lv_imul hx hb dX0_value_75 ?_
      refine lv_iload_n hx hb dX0_value_76 rfl (lv_at hl 3 rfl) ?_
      refine lv_imul hx hb dX0_value_77 ?_
      refine lv_isub hx hb dX0_value_78 ?_
      refine lv_goto (tgt := 84) hx hb dX0_value_79 (by decide) ?_
      exact x_iret X O rfl _ (Option.some.inj hf).symm rfl dX0_value_84
def C_X0_value_b27 (Δ : DT) (σ : ST) (x1 : Int32) (x2 : Int32) (x3 : Int32) (x4 : Int32) (s0 : Int32) (s2 : Int32) : Option (ST × Int32) :=
  (if x2 = 2 then C_X0_value_b37 Δ σ x1 x3 x4 s0 s2 1 else C_X0_value_b37 Δ σ x1 x3 x4 s0 s2 0)
theorem w_C_X0_value_b27 {Δ : DT} (X : FX p m c meth s args RX0 cX0_value 6 (some .int)) (K : XK D d A s) {z : ST × Int32} (σ : ST) (x1 : Int32) (x2 : Int32) (x3 : Int32) (x4 : Int32) (s0 : Int32) (s2 : Int32) (ls : Array Slot) (H : Heap) (locs : List Loc) (O : XH D A s.heap (hC hs) (xct (LC Δ) (okC Δ) (hC hs) d σ) H locs) (hl : lv_has ls 6 [(0, .ref ((hC hs) 0 0 0)), (1, .int x1), (2, .int x2), (3, .int x3), (4, .int x4)]) (hf : C_X0_value_b27 Δ σ x1 x2 x3 x4 s0 s2 = some z) : W p l e (rmD 1 0 0) s m args below meth c H locs 0 0 (MQ below (Qi D (pz z) (cw (hC hs) (LC Δ) (okC Δ) d) A) args s 0 0 A) (F0 m 27 ls [.int s2, .ref ((hC hs) 1 0 0), .int s0]) := by
  have hx := X.1.1; have hb := X.1.2.1
  rw [C_X0_value_b27] at hf
  refine lv_iload_n hx hb dX0_value_27 rfl (lv_at hl 2 rfl) ?_
  refine lv_iconst (v := 2) hx hb dX0_value_28 (by decide) ?_
  refine lv_icmp_ne (tgt := 36) hx hb dX0_value_29 (by decide) (fun c_1 => ?_) (fun c_1 => ?_)
  · replace hf := if_f c_1 hf
    refine lv_iconst (v := 0) hx hb dX0_value_36 (by decide) ?_
    exact w_C_X0_value_b37 X K _ _ _ _ _ _ _ ls _ _ O (lv_sub hl [0, 1, 3, 4] rfl) hf
  · replace hf := if_t c_1 hf
    refine lv_iconst (v := 1) hx hb dX0_value_32 (by decide) ?_
    refine lv_goto (tgt := 37) hx hb dX0_value_33 (by decide) ?_
    exact w_C_X0_value_b37 X K _ _ _ _ _ _ _ ls _ _ O (lv_sub hl [0, 1, 3, 4] rfl) hf
def C_X0_value (Δ : DT) (σ : ST) (p1 : Int32) (p2 : Int32) (p3 : Int32) (p4 : Int32) : Option (ST × Int32) :=
  (if p1 = 0 then some (σ, 0) else (if p2 = 0 then some (σ, 0) else (if p1 = 2 then C_X0_value_b27 Δ σ p1 p2 p3 p4 1000 1 else C_X0_value_b27 Δ σ p1 p2 p3 p4 1000 0)))
theorem m_C_X0_value {l : Launch} {D : va_G} {d : Nat → ClassId} {hs : IX} {Δ : DT} {p1 : Int32} {p2 : Int32} {p3 : Int32} {p4 : Int32} {σ : ST} {z : ST × Int32} (hf : C_X0_value Δ σ p1 p2 p3 p4 = some z) : XM l D d EN yX0_value cX0_value 6 (some .int) 1 0 0 [.ref ((hC hs) 0 0 0), .int p1, .int p2, .int p3, .int p4] (hC hs) (xct (LC Δ) (okC Δ) (hC hs) d σ) (Qi D (pz z) (cw (hC hs) (LC Δ) (okC Δ) d)) := by
  refine XM.of (by decide +kernel) (Nat.le_of_ble_eq_true rfl) ?_
  intro p e s m below meth c A ls X _ K _ O hl
  have hl : lv_has ls 6 [(0, .ref ((hC hs) 0 0 0)), (1, .int p1), (2, .int p2), (3, .int p3), (4, .int p4)] := hl
  have hx := X.1.1; have hb := X.1.2.1
  rw [C_X0_value] at hf
  refine lv_iload_n hx hb dX0_value_0 rfl (lv_at hl 1 rfl) ?_
  refine lv_if_eq (tgt := 8) hx hb dX0_value_1 (by decide) (fun c_1 => ?_) (fun c_1 => ?_)
  · replace hf := if_t c_1 hf
    refine lv_iconst (v := 0) hx hb dX0_value_8 (by decide) ?_
    exact x_iret X O rfl _ (Option.some.inj hf).symm rfl dX0_value_9
  · replace hf := if_f c_1 hf
    refine lv_iload_n hx hb dX0_value_4 rfl (lv_at hl 2 rfl) ?_
    refine lv_if_ne (tgt := 10) hx hb dX0_value_5 (by decide) (fun c_2 => ?_) (fun c_2 => ?_)
    · replace hf := if_f c_2 hf
      refine lv_sipush (v := 1000) hx hb dX0_value_10 (by decide) ?_
      refine lv_aload_n hx hb dX0_value_13 rfl (lv_at hl 0 rfl) ?_
      refine x_gF X K O 6 rfl LC_0 rfl rfl in_X0 (by decide) q379 dX0_value_14 ?_
      refine lv_iload_n hx hb dX0_value_17 rfl (lv_at hl 1 rfl) ?_
      refine lv_iconst (v := 2) hx hb dX0_value_18 (by decide) ?_
      refine lv_icmp_ne (tgt := 26) hx hb dX0_value_19 (by decide) (fun c_3 => ?_) (fun c_3 => ?_)
      · replace hf := if_f c_3 hf
        refine lv_iconst (v := 0) hx hb dX0_value_26 (by decide) ?_
        exact w_C_X0_value_b27 X K _ _ _ _ _ _ _ ls _ _ O (lv_sub hl [0, 1, 2, 3, 4] rfl) hf
      · replace hf := if_t c_3 hf
        refine lv_iconst (v := 1) hx hb dX0_value_22 (by decide) ?_
        refine lv_goto (tgt := 27) hx hb dX0_value_23 (by decide) ?_
        exact w_C_X0_value_b27 X K _ _ _ _ _ _ _ ls _ _ O (lv_sub hl [0, 1, 2, 3, 4] rfl) hf
    · replace hf := if_t c_2 hf
      refine lv_iconst (v := 0) hx hb dX0_value_8 (by decide) ?_
      exact x_iret X O rfl _ (Option.some.inj hf).symm rfl dX0_value_9
theorem hdV_X0_value : yX0_value.cls = RX0 ∧ (yX0_value.cls ≠ "java/lang/invoke/MethodHandle" ∧ yX0_value.cls ≠ "java/lang/invoke/VarHandle" ∧ (parseMethodDescriptor yX0_value.desc).map (fun d => d.parameters.length) = some 4) := by decide +kernel
def C_X0_rests_b161 (Δ : DT) (kb46 : ST → Int32 → Int32 → Int32 → Int32 → Int32 → Option (ST × Int32)) (kb55 : ST → Int32 → Int32 → Int32 → Int32 → Int32 → Int32 → Option (ST × Int32)) (σ : ST) (x3 : Int32) (x4 : Int32) (x5 : Int32) (x7 : Int32) (x8 : Int32) (s0 : Int32) (s1 : Int32) : Option (ST × Int32) :=
  lt1 (s0 ||| s1) (fun x6_1 => lt1 (x8 + 1) (fun x8_2 => kb55 σ x3 x4 x5 x6_1 x7 x8_2))
theorem w_C_X0_rests_b161 {Δ : DT} (X : FX p m c meth s args RX0 cX0_rests 11 (some .int)) (K : XK D d A s) {z : ST × Int32} {kb46 : ST → Int32 → Int32 → Int32 → Int32 → Int32 → Option (ST × Int32)} (hkb46 : ∀ (σ : ST) (x3 : Int32) (x4 : Int32) (x5 : Int32) (x6 : Int32) (x7 : Int32) (ls : Array Slot) (H : Heap) (locs : List Loc), XH D A s.heap (hC hs) (xct (LC Δ) (okC Δ) (hC hs) d σ) H locs → lv_has ls 11 [(0, .ref ((hC hs) 0 0 0)), (3, .int x3), (4, .int x4), (5, .int x5), (6, .int x6), (7, .int x7)] → kb46 σ x3 x4 x5 x6 x7 = some z → W p l e (rmD 423 0 0) s m args below meth c H locs 0 0 (MQ below (Qi D (pz z) (cw (hC hs) (LC Δ) (okC Δ) d) A) args s 0 0 A) (F0 m 46 ls [])) {kb55 : ST → Int32 → Int32 → Int32 → Int32 → Int32 → Int32 → Option (ST × Int32)} (hkb55 : ∀ (σ : ST) (x3 : Int32) (x4 : Int32) (x5 : Int32) (x6 : Int32) (x7 : Int32) (x8 : Int32) (ls : Array Slot) (H : Heap) (locs : List Loc), XH D A s.heap (hC hs) (xct (LC Δ) (okC Δ) (hC hs) d σ) H locs → lv_has ls 11 [(0, .ref ((hC hs) 0 0 0)), (3, .int x3), (4, .int x4), (5, .int x5), (6, .int x6), (7, .int x7), (8, .int x8)] → kb55 σ x3 x4 x5 x6 x7 x8 = some z → W p l e (rmD 423 0 0) s m args below meth c H locs 0 0 (MQ below (Qi D (pz z) (cw (hC hs) (LC Δ) (okC Δ) d) A) args s 0 0 A) (F0 m 55 ls [])) (σ : ST) (x3 : Int32) (x4 : Int32) (x5 : Int32) (x7 : Int32) (x8 : Int32) (s0 : Int32) (s1 : Int32) (ls : Array Slot) (H : Heap) (locs : List Loc) (O : XH D A s.heap (hC hs) (xct (LC Δ) (okC Δ) (hC hs) d σ) H locs) (hl : lv_has ls 11 [(0, .ref ((hC hs) 0 0 0)), (3, .int x3), (4, .int x4), (5, .int x5), (7, .int x7), (8, .int x8)]) (hf : C_X0_rests_b161 Δ kb46 kb55 σ x3 x4 x5 x7 x8 s0 s1 = some z) : W p l e (rmD 423 0 0) s m args below meth c H locs 0 0 (MQ below (Qi D (pz z) (cw (hC hs) (LC Δ) (okC Δ) d) A) args s 0 0 A) (F0 m 161 ls [.int s1, .int s0]) := by
  have hx := X.1.1; have hb := X.1.2.1
  rw [C_X0_rests_b161] at hf
  refine lv_ior hx hb dX0_rests_161 ?_
  obtain ⟨x6_1, ex6_1, hf⟩ := lt1_s hf
  refine x_top (w := .int x6_1) (by rw [ex6_1]) ?_
  refine lv_istore (lv' := [(6, .int x6_1), (0, .ref ((hC hs) 0 0 0)), (3, .int x3), (4, .int x4), (5, .int x5), (7, .int x7), (8, .int x8)]) hx hb dX0_rests_162 hl (by decide) rfl (fun ls hl => ?_)
  obtain ⟨x8_2, ex8_2, hf⟩ := lt1_s hf
  refine lv_iinc (v := x8_2) (lv' := [(8, .int x8_2), (6, .int x6_1), (0, .ref ((hC hs) 0 0 0)), (3, .int x3), (4, .int x4), (5, .int x5), (7, .int x7)]) hx hb dX0_rests_164 hl (k := 6) rfl (by rw [ex8_2]; rfl) (by decide) rfl (fun ls hl => ?_)
  refine lv_goto (tgt := 55) hx hb dX0_rests_167 (by decide) ?_
  exact hkb55 _ _ _ _ _ _ _ ls _ _ O (lv_sub hl [2, 3, 4, 5, 1, 6, 0] rfl) hf
def C_X0_rests_b133 (Δ : DT) (kb46 : ST → Int32 → Int32 → Int32 → Int32 → Int32 → Option (ST × Int32)) (kb55 : ST → Int32 → Int32 → Int32 → Int32 → Int32 → Int32 → Option (ST × Int32)) (kb67 : ST → Int32 → Int32 → Int32 → Int32 → Int32 → Int32 → Int32 → Int32 → Option (ST × Int32)) (σ : ST) (x3 : Int32) (x4 : Int32) (x5 : Int32) (x6 : Int32) (x7 : Int32) (x8 : Int32) (x10 : Int32) (s0 : Int32) : Option (ST × Int32) :=
  lt1 (x10 + 1) (fun x10_1 => kb67 σ x3 x4 x5 x6 x7 x8 s0 x10_1)
theorem w_C_X0_rests_b133 {Δ : DT} (X : FX p m c meth s args RX0 cX0_rests 11 (some .int)) (K : XK D d A s) {z : ST × Int32} {kb46 : ST → Int32 → Int32 → Int32 → Int32 → Int32 → Option (ST × Int32)} (hkb46 : ∀ (σ : ST) (x3 : Int32) (x4 : Int32) (x5 : Int32) (x6 : Int32) (x7 : Int32) (ls : Array Slot) (H : Heap) (locs : List Loc), XH D A s.heap (hC hs) (xct (LC Δ) (okC Δ) (hC hs) d σ) H locs → lv_has ls 11 [(0, .ref ((hC hs) 0 0 0)), (3, .int x3), (4, .int x4), (5, .int x5), (6, .int x6), (7, .int x7)] → kb46 σ x3 x4 x5 x6 x7 = some z → W p l e (rmD 423 0 0) s m args below meth c H locs 0 0 (MQ below (Qi D (pz z) (cw (hC hs) (LC Δ) (okC Δ) d) A) args s 0 0 A) (F0 m 46 ls [])) {kb55 : ST → Int32 → Int32 → Int32 → Int32 → Int32 → Int32 → Option (ST × Int32)} (hkb55 : ∀ (σ : ST) (x3 : Int32) (x4 : Int32) (x5 : Int32) (x6 : Int32) (x7 : Int32) (x8 : Int32) (ls : Array Slot) (H : Heap) (locs : List Loc), XH D A s.heap (hC hs) (xct (LC Δ) (okC Δ) (hC hs) d σ) H locs → lv_has ls 11 [(0, .ref ((hC hs) 0 0 0)), (3, .int x3), (4, .int x4), (5, .int x5), (6, .int x6), (7, .int x7), (8, .int x8)] → kb55 σ x3 x4 x5 x6 x7 x8 = some z → W p l e (rmD 423 0 0) s m args below meth c H locs 0 0 (MQ below (Qi D (pz z) (cw (hC hs) (LC Δ) (okC Δ) d) A) args s 0 0 A) (F0 m 55 ls [])) {kb67 : ST → Int32 → Int32 → Int32 → Int32 → Int32 → Int32 → Int32 → Int32 → Option (ST × Int32)} (hkb67 : ∀ (σ : ST) (x3 : Int32) (x4 : Int32) (x5 : Int32) (x6 : Int32) (x7 : Int32) (x8 : Int32) (x9 : Int32) (x10 : Int32) (ls : Array Slot) (H : Heap) (locs : List Loc), XH D A s.heap (hC hs) (xct (LC Δ) (okC Δ) (hC hs) d σ) H locs → lv_has ls 11 [(0, .ref ((hC hs) 0 0 0)), (3, .int x3), (4, .int x4), (5, .int x5), (6, .int x6), (7, .int x7), (8, .int x8), (9, .int x9), (10, .int x10)] → kb67 σ x3 x4 x5 x6 x7 x8 x9 x10 = some z → W p l e (rmD 423 0 0) s m args below meth c H locs 0 0 (MQ below (Qi D (pz z) (cw (hC hs) (LC Δ) (okC Δ) d) A) args s 0 0 A) (F0 m 67 ls [])) (σ : ST) (x3 : Int32) (x4 : Int32) (x5 : Int32) (x6 : Int32) (x7 : Int32) (x8 : Int32) (x10 : Int32) (s0 : Int32) (ls : Array Slot) (H : Heap) (locs : List Loc) (O : XH D A s.heap (hC hs) (xct (LC Δ) (okC Δ) (hC hs) d σ) H locs) (hl : lv_has ls 11 [(0, .ref ((hC hs) 0 0 0)), (3, .int x3), (4, .int x4), (5, .int x5), (6, .int x6), (7, .int x7), (8, .int x8), (10, .int x10)]) (hf : C_X0_rests_b133 Δ kb46 kb55 kb67 σ x3 x4 x5 x6 x7 x8 x10 s0 = some z) : W p l e (rmD 423 0 0) s m args below meth c H locs 0 0 (MQ below (Qi D (pz z) (cw (hC hs) (LC Δ) (okC Δ) d) A) args s 0 0 A) (F0 m 133 ls [.int s0]) := by
  have hx := X.1.1; have hb := X.1.2.1
  rw [C_X0_rests_b133] at hf
  refine lv_istore (lv' := [(9, .int s0), (0, .ref ((hC hs) 0 0 0)), (3, .int x3), (4, .int x4), (5, .int x5), (6, .int x6), (7, .int x7), (8, .int x8), (10, .int x10)]) hx hb dX0_rests_133 hl (by decide) rfl (fun ls hl => ?_)
  obtain ⟨x10_1, ex10_1, hf⟩ := lt1_s hf
  refine lv_iinc (v := x10_1) (lv' := [(10, .int x10_1), (9, .int s0), (0, .ref ((hC hs) 0 0 0)), (3, .int x3), (4, .int x4), (5, .int x5), (6, .int x6), (7, .int x7), (8, .int x8)]) hx hb dX0_rests_135 hl (k := 8) rfl (by rw [ex10_1]; rfl) (by decide) rfl (fun ls hl => ?_)
  refine lv_goto (tgt := 67) hx hb dX0_rests_138 (by decide) ?_
  exact hkb67 _ _ _ _ _ _ _ _ _ ls _ _ O (lv_sub hl [2, 3, 4, 5, 6, 7, 8, 1, 0] rfl) hf
def C_X0_rests_b132 (Δ : DT) (kb46 : ST → Int32 → Int32 → Int32 → Int32 → Int32 → Option (ST × Int32)) (kb55 : ST → Int32 → Int32 → Int32 → Int32 → Int32 → Int32 → Option (ST × Int32)) (kb67 : ST → Int32 → Int32 → Int32 → Int32 → Int32 → Int32 → Int32 → Int32 → Option (ST × Int32)) (σ : ST) (x3 : Int32) (x4 : Int32) (x5 : Int32) (x6 : Int32) (x7 : Int32) (x8 : Int32) (x10 : Int32) : Option (ST × Int32) :=
  C_X0_rests_b133 Δ kb46 kb55 kb67 σ x3 x4 x5 x6 x7 x8 x10 0
theorem w_C_X0_rests_b132 {Δ : DT} (X : FX p m c meth s args RX0 cX0_rests 11 (some .int)) (K : XK D d A s) {z : ST × Int32} {kb46 : ST → Int32 → Int32 → Int32 → Int32 → Int32 → Option (ST × Int32)} (hkb46 : ∀ (σ : ST) (x3 : Int32) (x4 : Int32) (x5 : Int32) (x6 : Int32) (x7 : Int32) (ls : Array Slot) (H : Heap) (locs : List Loc), XH D A s.heap (hC hs) (xct (LC Δ) (okC Δ) (hC hs) d σ) H locs → lv_has ls 11 [(0, .ref ((hC hs) 0 0 0)), (3, .int x3), (4, .int x4), (5, .int x5), (6, .int x6), (7, .int x7)] → kb46 σ x3 x4 x5 x6 x7 = some z → W p l e (rmD 423 0 0) s m args below meth c H locs 0 0 (MQ below (Qi D (pz z) (cw (hC hs) (LC Δ) (okC Δ) d) A) args s 0 0 A) (F0 m 46 ls [])) {kb55 : ST → Int32 → Int32 → Int32 → Int32 → Int32 → Int32 → Option (ST × Int32)} (hkb55 : ∀ (σ : ST) (x3 : Int32) (x4 : Int32) (x5 : Int32) (x6 : Int32) (x7 : Int32) (x8 : Int32) (ls : Array Slot) (H : Heap) (locs : List Loc), XH D A s.heap (hC hs) (xct (LC Δ) (okC Δ) (hC hs) d σ) H locs → lv_has ls 11 [(0, .ref ((hC hs) 0 0 0)), (3, .int x3), (4, .int x4), (5, .int x5), (6, .int x6), (7, .int x7), (8, .int x8)] → kb55 σ x3 x4 x5 x6 x7 x8 = some z → W p l e (rmD 423 0 0) s m args below meth c H locs 0 0 (MQ below (Qi D (pz z) (cw (hC hs) (LC Δ) (okC Δ) d) A) args s 0 0 A) (F0 m 55 ls [])) {kb67 : ST → Int32 → Int32 → Int32 → Int32 → Int32 → Int32 → Int32 → Int32 → Option (ST × Int32)} (hkb67 : ∀ (σ : ST) (x3 : Int32) (x4 : Int32) (x5 : Int32) (x6 : Int32) (x7 : Int32) (x8 : Int32) (x9 : Int32) (x10 : Int32) (ls : Array Slot) (H : Heap) (locs : List Loc), XH D A s.heap (hC hs) (xct (LC Δ) (okC Δ) (hC hs) d σ) H locs → lv_has ls 11 [(0, .ref ((hC hs) 0 0 0)), (3, .int x3), (4, .int x4), (5, .int x5), (6, .int x6), (7, .int x7), (8, .int x8), (9, .int x9), (10, .int x10)] → kb67 σ x3 x4 x5 x6 x7 x8 x9 x10 = some z → W p l e (rmD 423 0 0) s m args below meth c H locs 0 0 (MQ below (Qi D (pz z) (cw (hC hs) (LC Δ) (okC Δ) d) A) args s 0 0 A) (F0 m 67 ls [])) (σ : ST) (x3 : Int32) (x4 : Int32) (x5 : Int32) (x6 : Int32) (x7 : Int32) (x8 : Int32) (x10 : Int32) (ls : Array Slot) (H : Heap) (locs : List Loc) (O : XH D A s.heap (hC hs) (xct (LC Δ) (okC Δ) (hC hs) d σ) H locs) (hl : lv_has ls 11 [(0, .ref ((hC hs) 0 0 0)), (3, .int x3), (4, .int x4), (5, .int x5), (6, .int x6), (7, .int x7), (8, .int x8), (10, .int x10)]) (hf : C_X0_rests_b132 Δ kb46 kb55 kb67 σ x3 x4 x5 x6 x7 x8 x10 = some z) : W p l e (rmD 423 0 0) s m args below meth c H locs 0 0 (MQ below (Qi D (pz z) (cw (hC hs) (LC Δ) (okC Δ) d) A) args s 0 0 A) (F0 m 132 ls []) := by
  have hx := X.1.1; have hb := X.1.2.1
  rw [C_X0_rests_b132] at hf
  refine lv_iconst (v := 0) hx hb dX0_rests_132 (by decide) ?_
  exact w_C_X0_rests_b133 X K hkb46 hkb55 hkb67 _ _ _ _ _ _ _ _ _ ls _ _ O (lv_sub hl [0, 1, 2, 3, 4, 5, 6, 7] rfl) hf
def C_X0_rests_b67 (Δ : DT) (kb46 : ST → Int32 → Int32 → Int32 → Int32 → Int32 → Option (ST × Int32)) (kb55 : ST → Int32 → Int32 → Int32 → Int32 → Int32 → Int32 → Option (ST × Int32)) : Nat → ST → Int32 → Int32 → Int32 → Int32 → Int32 → Int32 → Int32 → Int32 → Option (ST × Int32)
  | 0, _, _, _, _, _, _, _, _, _ => none
  | n + 1, σ, x3, x4, x5, x6, x7, x8, x9, x10 =>
    (if 3 ≤ x10 then (if x9 = 0 then C_X0_rests_b161 Δ kb46 kb55 σ x3 x4 x5 x7 x8 x6 0 else C_X0_rests_b161 Δ kb46 kb55 σ x3 x4 x5 x7 x8 x6 (1 <<< (((3 * x7) + x8) &&& 31))) else (if x9 = 0 then C_X0_rests_b132 Δ kb46 kb55 (C_X0_rests_b67 Δ kb46 kb55 n) σ x3 x4 x5 x6 x7 x8 x10 else bn2 (C_X0_value Δ σ x10 x8 x3 x4) (fun σ_4 r_5 => bn2 (C_X0_value Δ σ_4 x7 x8 x3 x4) (fun σ_6 r_7 => (if r_7 < r_5 then C_X0_rests_b132 Δ kb46 kb55 (C_X0_rests_b67 Δ kb46 kb55 n) σ_6 x3 x4 x5 x6 x7 x8 x10 else bn2 (C_X0_value Δ σ_6 x10 x7 x3 x5) (fun σ_9 r_10 => bn2 (C_X0_value Δ σ_9 x8 x7 x3 x5) (fun σ_11 r_12 => (if r_12 < r_10 then C_X0_rests_b132 Δ kb46 kb55 (C_X0_rests_b67 Δ kb46 kb55 n) σ_11 x3 x4 x5 x6 x7 x8 x10 else C_X0_rests_b133 Δ kb46 kb55 (C_X0_rests_b67 Δ kb46 kb55 n) σ_11 x3 x4 x5 x6 x7 x8 x10 1))))))))
theorem w_C_X0_rests_b67 {Δ : DT} (X : FX p m c meth s args RX0 cX0_rests 11 (some .int)) (K : XK D d A s) {z : ST × Int32} {kb46 : ST → Int32 → Int32 → Int32 → Int32 → Int32 → Option (ST × Int32)} (hkb46 : ∀ (σ : ST) (x3 : Int32) (x4 : Int32) (x5 : Int32) (x6 : Int32) (x7 : Int32) (ls : Array Slot) (H : Heap) (locs : List Loc), XH D A s.heap (hC hs) (xct (LC Δ) (okC Δ) (hC hs) d σ) H locs → lv_has ls 11 [(0, .ref ((hC hs) 0 0 0)), (3, .int x3), (4, .int x4), (5, .int x5), (6, .int x6), (7, .int x7)] → kb46 σ x3 x4 x5 x6 x7 = some z → W p l e (rmD 423 0 0) s m args below meth c H locs 0 0 (MQ below (Qi D (pz z) (cw (hC hs) (LC Δ) (okC Δ) d) A) args s 0 0 A) (F0 m 46 ls [])) {kb55 : ST → Int32 → Int32 → Int32 → Int32 → Int32 → Int32 → Option (ST × Int32)} (hkb55 : ∀ (σ : ST) (x3 : Int32) (x4 : Int32) (x5 : Int32) (x6 : Int32) (x7 : Int32) (x8 : Int32) (ls : Array Slot) (H : Heap) (locs : List Loc), XH D A s.heap (hC hs) (xct (LC Δ) (okC Δ) (hC hs) d σ) H locs → lv_has ls 11 [(0, .ref ((hC hs) 0 0 0)), (3, .int x3), (4, .int x4), (5, .int x5), (6, .int x6), (7, .int x7), (8, .int x8)] → kb55 σ x3 x4 x5 x6 x7 x8 = some z → W p l e (rmD 423 0 0) s m args below meth c H locs 0 0 (MQ below (Qi D (pz z) (cw (hC hs) (LC Δ) (okC Δ) d) A) args s 0 0 A) (F0 m 55 ls [])) : ∀ (n : Nat) (σ : ST) (x3 : Int32) (x4 : Int32) (x5 : Int32) (x6 : Int32) (x7 : Int32) (x8 : Int32) (x9 : Int32) (x10 : Int32) (ls : Array Slot) (H : Heap) (locs : List Loc), XH D A s.heap (hC hs) (xct (LC Δ) (okC Δ) (hC hs) d σ) H locs → lv_has ls 11 [(0, .ref ((hC hs) 0 0 0)), (3, .int x3), (4, .int x4), (5, .int x5), (6, .int x6), (7, .int x7), (8, .int x8), (9, .int x9), (10, .int x10)] → C_X0_rests_b67 Δ kb46 kb55 n σ x3 x4 x5 x6 x7 x8 x9 x10 = some z → W p l e (rmD 423 0 0) s m args below meth c H locs 0 0 (MQ below (Qi D (pz z) (cw (hC hs) (LC Δ) (okC Δ) d) A) args s 0 0 A) (F0 m 67 ls []) := by
  have hx := X.1.1; have hb := X.1.2.1
  intro n
  induction n with
  | zero =>
    intro σ x3 x4 x5 x6 x7 x8 x9 x10 ls H locs O hl hf
    exact absurd hf (fun q => by cases q)
  | succ n ih =>
    intro σ x3 x4 x5 x6 x7 x8 x9 x10 ls H locs O hl hf
    rw [C_X0_rests_b67] at hf
    refine lv_iload hx hb dX0_rests_67 (lv_at hl 8 rfl) ?_
    refine lv_iconst (v := 3) hx hb dX0_rests_69 (by decide) ?_
    refine lv_icmp_ge (tgt := 141) hx hb dX0_rests_70 (by decide) (fun c_1 => ?_) (fun c_1 => ?_)
    · replace hf := if_t c_1 hf
      refine lv_iload hx hb dX0_rests_141 (lv_at hl 4 rfl) ?_
      refine lv_iload hx hb dX0_rests_143 (lv_at hl 7 rfl) ?_
      refine lv_if_eq (tgt := 160) hx hb dX0_rests_145 (by decide) (fun c_2 => ?_) (fun c_2 => ?_)
      · replace hf := if_t c_2 hf
        refine lv_iconst (v := 0) hx hb dX0_rests_160 (by decide) ?_
        exact w_C_X0_rests_b161 X K hkb46 hkb55 _ _ _ _ _ _ _ _ ls _ _ O (lv_sub hl [0, 1, 2, 3, 5, 6] rfl) hf
      · replace hf := if_f c_2 hf
        refine lv_iconst (v := 1) hx hb dX0_rests_148 (by decide) ?_
        refine lv_iconst (v := 3) hx hb dX0_rests_149 (by decide) ?_
        refine lv_iload hx hb dX0_rests_150 (lv_at hl 5 rfl) ?_
        refine lv_imul hx hb dX0_rests_152 ?_
        refine lv_iload hx hb dX0_rests_153 (lv_at hl 6 rfl) ?_
        refine lv_iadd hx hb dX0_rests_155 ?_
        refine lv_ishl hx hb dX0_rests_156 ?_
        refine lv_goto (tgt := 161) hx hb dX0_rests_157 (by decide) ?_
        exact w_C_X0_rests_b161 X K hkb46 hkb55 _ _ _ _ _ _ _ _ ls _ _ O (lv_sub hl [0, 1, 2, 3, 5, 6] rfl) hf
    · replace hf := if_f c_1 hf
      refine lv_iload hx hb dX0_rests_73 (lv_at hl 7 rfl) ?_
      refine lv_if_eq (tgt := 132) hx hb dX0_rests_75 (by decide) (fun c_3 => ?_) (fun c_3 => ?_)
      · replace hf := if_t c_3 hf
        exact w_C_X0_rests_b132 X K hkb46 hkb55 ih _ _ _ _ _ _ _ _ ls _ _ O (lv_sub hl [0, 1, 2, 3, 4, 5, 6, 8] rfl) hf
      · replace hf := if_f c_3 hf
        refine lv_aload_n hx hb dX0_rests_78 rfl (lv_at hl 0 rfl) ?_
        refine lv_iload hx hb dX0_rests_79 (lv_at hl 8 rfl) ?_
        refine lv_iload hx hb dX0_rests_81 (lv_at hl 6 rfl) ?_
        refine lv_iload_n hx hb dX0_rests_83 rfl (lv_at hl 1 rfl) ?_
        refine lv_iload hx hb dX0_rests_84 (lv_at hl 2 rfl) ?_
        obtain ⟨σ_4, r_5, hg, hf⟩ := bn2_s hf
        refine x_calli (x_runV (As := [.int x10, .int x8, .int x3, .int x4]) (rest := []) X K O (xct_obj rfl LC_0) rfl (m_C_X0_value hg) EN_b EN_h (lw_V q1031 q1033 qs40 q111 q1034) 4 rfl hl.1 (Nat.le_of_ble_eq_true rfl) hdV_X0_value ⟨by decide, by decide⟩ ⟨Nat.le_refl _, Nat.le_refl _⟩ dX0_rests_86) (fun r u H locs hp O _ => ?_)
        cases hp
        have O : XH D A s.heap (hC hs) (xct (LC Δ) (okC Δ) (hC hs) d σ_4) H locs := O
        refine lv_aload_n hx hb dX0_rests_89 rfl (lv_at hl 0 rfl) ?_
        refine lv_iload hx hb dX0_rests_90 (lv_at hl 5 rfl) ?_
        refine lv_iload hx hb dX0_rests_92 (lv_at hl 6 rfl) ?_
        refine lv_iload_n hx hb dX0_rests_94 rfl (lv_at hl 1 rfl) ?_
        refine lv_iload hx hb dX0_rests_95 (lv_at hl 2 rfl) ?_
        obtain ⟨σ_6, r_7, hg, hf⟩ := bn2_s hf
        refine x_calli (x_runV (As := [.int x7, .int x8, .int x3, .int x4]) (rest := [.int r_5]) X K O (xct_obj rfl LC_0) rfl (m_C_X0_value hg) EN_b EN_h (lw_V q1031 q1033 qs40 q111 q1034) 4 rfl hl.1 (Nat.le_of_ble_eq_true rfl) hdV_X0_value ⟨by decide, by decide⟩ ⟨Nat.le_refl _, Nat.le_refl _⟩ dX0_rests_97) (fun r u H locs hp O _ => ?_)
        cases hp
        have O : XH D A s.heap (hC hs) (xct (LC Δ) (okC Δ) (hC hs) d σ_6) H locs := O
        refine lv_icmp_gt (tgt := 132) hx hb dX0_rests_100 (by decide) (fun c_8 => ?_) (fun c_8 => ?_)
        · replace hf := if_t c_8 hf
          exact w_C_X0_rests_b132 X K hkb46 hkb55 ih _ _ _ _ _ _ _ _ ls _ _ O (lv_sub hl [0, 1, 2, 3, 4, 5, 6, 8] rfl) hf
        · replace hf := if_f c_8 hf
          refine lv_aload_n hx hb dX0_rests_103 rfl (lv_at hl 0 rfl) ?_
          refine lv_iload hx hb dX0_rests_104 (lv_at hl 8 rfl) ?_
          refine lv_iload hx hb dX0_rests_106 (lv_at hl 5 rfl) ?_
          refine lv_iload_n hx hb dX0_rests_108 rfl (lv_at hl 1 rfl) ?_
          refine lv_iload hx hb dX0_rests_109 (lv_at hl 3 rfl) ?_
          obtain ⟨σ_9, r_10, hg, hf⟩ := bn2_s hf
          refine x_calli (x_runV (As := [.int x10, .int x7, .int x3, .int x5]) (rest := []) X K O (xct_obj rfl LC_0) rfl (m_C_X0_value hg) EN_b EN_h (lw_V q1031 q1033 qs40 q111 q1034) 4 rfl hl.1 (Nat.le_of_ble_eq_true rfl) hdV_X0_value ⟨by decide, by decide⟩ ⟨Nat.le_refl _, Nat.le_refl _⟩ dX0_rests_111) (fun r u H locs hp O _ => ?_)
          cases hp
          have O : XH D A s.heap (hC hs) (xct (LC Δ) (okC Δ) (hC hs) d σ_9) H locs := O
          refine lv_aload_n hx hb dX0_rests_114 rfl (lv_at hl 0 rfl) ?_
          refine lv_iload hx hb dX0_rests_115 (lv_at hl 6 rfl) ?_
          refine lv_iload hx hb dX0_rests_117 (lv_at hl 5 rfl) ?_
          refine lv_iload_n hx hb dX0_rests_119 rfl (lv_at hl 1 rfl) ?_
          refine lv_iload hx hb dX0_rests_120 (lv_at hl 3 rfl) ?_
          obtain ⟨σ_11, r_12, hg, hf⟩ := bn2_s hf
          refine x_calli (x_runV (As := [.int x8, .int x7, .int x3, .int x5]) (rest := [.int r_10]) X K O (xct_obj rfl LC_0) rfl (m_C_X0_value hg) EN_b EN_h (lw_V q1031 q1033 qs40 q111 q1034) 4 rfl hl.1 (Nat.le_of_ble_eq_true rfl) hdV_X0_value ⟨by decide, by decide⟩ ⟨Nat.le_refl _, Nat.le_refl _⟩ dX0_rests_122) (fun r u H locs hp O _ => ?_)
          cases hp
          have O : XH D A s.heap (hC hs) (xct (LC Δ) (okC Δ) (hC hs) d σ_11) H locs := O
          refine lv_icmp_gt (tgt := 132) hx hb dX0_rests_125 (by decide) (fun c_13 => ?_) (fun c_13 => ?_)
          · replace hf := if_t c_13 hf
            exact w_C_X0_rests_b132 X K hkb46 hkb55 ih _ _ _ _ _ _ _ _ ls _ _ O (lv_sub hl [0, 1, 2, 3, 4, 5, 6, 8] rfl) hf
          · replace hf := if_f c_13 hf
            refine lv_iconst (v := 1) hx hb dX0_rests_128 (by decide) ?_
            refine lv_goto (tgt := 133) hx hb dX0_rests_129 (by decide) ?_
            exact w_C_X0_rests_b133 X K hkb46 hkb55 ih _ _ _ _ _ _ _ _ _ ls _ _ O (lv_sub hl [0, 1, 2, 3, 4, 5, 6, 8] rfl) hf
def C_X0_rests_b55 (Δ : DT) (kb46 : ST → Int32 → Int32 → Int32 → Int32 → Int32 → Option (ST × Int32)) : Nat → ST → Int32 → Int32 → Int32 → Int32 → Int32 → Int32 → Option (ST × Int32)
  | 0, _, _, _, _, _, _, _ => none
  | n + 1, σ, x3, x4, x5, x6, x7, x8 =>
    (if 3 ≤ x8 then lt1 (x7 + 1) (fun x7_2 => kb46 σ x3 x4 x5 x6 x7_2) else C_X0_rests_b67 Δ kb46 (C_X0_rests_b55 Δ kb46 n) FUEL σ x3 x4 x5 x6 x7 x8 1 0)
theorem w_C_X0_rests_b55 {Δ : DT} (X : FX p m c meth s args RX0 cX0_rests 11 (some .int)) (K : XK D d A s) {z : ST × Int32} {kb46 : ST → Int32 → Int32 → Int32 → Int32 → Int32 → Option (ST × Int32)} (hkb46 : ∀ (σ : ST) (x3 : Int32) (x4 : Int32) (x5 : Int32) (x6 : Int32) (x7 : Int32) (ls : Array Slot) (H : Heap) (locs : List Loc), XH D A s.heap (hC hs) (xct (LC Δ) (okC Δ) (hC hs) d σ) H locs → lv_has ls 11 [(0, .ref ((hC hs) 0 0 0)), (3, .int x3), (4, .int x4), (5, .int x5), (6, .int x6), (7, .int x7)] → kb46 σ x3 x4 x5 x6 x7 = some z → W p l e (rmD 423 0 0) s m args below meth c H locs 0 0 (MQ below (Qi D (pz z) (cw (hC hs) (LC Δ) (okC Δ) d) A) args s 0 0 A) (F0 m 46 ls [])) : ∀ (n : Nat) (σ : ST) (x3 : Int32) (x4 : Int32) (x5 : Int32) (x6 : Int32) (x7 : Int32) (x8 : Int32) (ls : Array Slot) (H : Heap) (locs : List Loc), XH D A s.heap (hC hs) (xct (LC Δ) (okC Δ) (hC hs) d σ) H locs → lv_has ls 11 [(0, .ref ((hC hs) 0 0 0)), (3, .int x3), (4, .int x4), (5, .int x5), (6, .int x6), (7, .int x7), (8, .int x8)] → C_X0_rests_b55 Δ kb46 n σ x3 x4 x5 x6 x7 x8 = some z → W p l e (rmD 423 0 0) s m args below meth c H locs 0 0 (MQ below (Qi D (pz z) (cw (hC hs) (LC Δ) (okC Δ) d) A) args s 0 0 A) (F0 m 55 ls []) := by
  have hx := X.1.1; have hb := X.1.2.1
  intro n
  induction n with
  | zero =>
    intro σ x3 x4 x5 x6 x7 x8 ls H locs O hl hf
    exact absurd hf (fun q => by cases q)
  | succ n ih =>
    intro σ x3 x4 x5 x6 x7 x8 ls H locs O hl hf
    rw [C_X0_rests_b55] at hf
    refine lv_iload hx hb dX0_rests_55 (lv_at hl 6 rfl) ?_
    refine lv_iconst (v := 3) hx hb dX0_rests_57 (by decide) ?_
    refine lv_icmp_ge (tgt := 170) hx hb dX0_rests_58 (by decide) (fun c_1 => ?_) (fun c_1 => ?_)
    · replace hf := if_t c_1 hf
      obtain ⟨x7_2, ex7_2, hf⟩ := lt1_s hf
      refine lv_iinc (v := x7_2) (lv' := [(7, .int x7_2), (0, .ref ((hC hs) 0 0 0)), (3, .int x3), (4, .int x4), (5, .int x5), (6, .int x6), (8, .int x8)]) hx hb dX0_rests_170 hl (k := 5) rfl (by rw [ex7_2]; rfl) (by decide) rfl (fun ls hl => ?_)
      refine lv_goto (tgt := 46) hx hb dX0_rests_173 (by decide) ?_
      exact hkb46 _ _ _ _ _ _ ls _ _ O (lv_sub hl [1, 2, 3, 4, 5, 0] rfl) hf
    · replace hf := if_f c_1 hf
      refine lv_iconst (v := 1) hx hb dX0_rests_61 (by decide) ?_
      refine lv_istore (lv' := [(9, .int 1), (0, .ref ((hC hs) 0 0 0)), (3, .int x3), (4, .int x4), (5, .int x5), (6, .int x6), (7, .int x7), (8, .int x8)]) hx hb dX0_rests_62 hl (by decide) rfl (fun ls hl => ?_)
      refine lv_iconst (v := 0) hx hb dX0_rests_64 (by decide) ?_
      refine lv_istore (lv' := [(10, .int 0), (9, .int 1), (0, .ref ((hC hs) 0 0 0)), (3, .int x3), (4, .int x4), (5, .int x5), (6, .int x6), (7, .int x7), (8, .int x8)]) hx hb dX0_rests_65 hl (by decide) rfl (fun ls hl => ?_)
      exact w_C_X0_rests_b67 X K hkb46 ih _ _ _ _ _ _ _ _ _ _ ls _ _ O (lv_sub hl [2, 3, 4, 5, 6, 7, 8, 1, 0] rfl) hf
def C_X0_rests_b46 (Δ : DT) : Nat → ST → Int32 → Int32 → Int32 → Int32 → Int32 → Option (ST × Int32)
  | 0, _, _, _, _, _, _ => none
  | n + 1, σ, x3, x4, x5, x6, x7 =>
    (if 3 ≤ x7 then some (σ, x6) else C_X0_rests_b55 Δ (C_X0_rests_b46 Δ n) FUEL σ x3 x4 x5 x6 x7 0)
theorem w_C_X0_rests_b46 {Δ : DT} (X : FX p m c meth s args RX0 cX0_rests 11 (some .int)) (K : XK D d A s) {z : ST × Int32} : ∀ (n : Nat) (σ : ST) (x3 : Int32) (x4 : Int32) (x5 : Int32) (x6 : Int32) (x7 : Int32) (ls : Array Slot) (H : Heap) (locs : List Loc), XH D A s.heap (hC hs) (xct (LC Δ) (okC Δ) (hC hs) d σ) H locs → lv_has ls 11 [(0, .ref ((hC hs) 0 0 0)), (3, .int x3), (4, .int x4), (5, .int x5), (6, .int x6), (7, .int x7)] → C_X0_rests_b46 Δ n σ x3 x4 x5 x6 x7 = some z → W p l e (rmD 423 0 0) s m args below meth c H locs 0 0 (MQ below (Qi D (pz z) (cw (hC hs) (LC Δ) (okC Δ) d) A) args s 0 0 A) (F0 m 46 ls []) := by
  have hx := X.1.1; have hb := X.1.2.1
  intro n
  induction n with
  | zero =>
    intro σ x3 x4 x5 x6 x7 ls H locs O hl hf
    exact absurd hf (fun q => by cases q)
  | succ n ih =>
    intro σ x3 x4 x5 x6 x7 ls H locs O hl hf
    rw [C_X0_rests_b46] at hf
    refine lv_iload hx hb dX0_rests_46 (lv_at hl 5 rfl) ?_
    refine lv_iconst (v := 3) hx hb dX0_rests_48 (by decide) ?_
    refine lv_icmp_ge (tgt := 176) hx hb dX0_rests_49 (by decide) (fun c_1 => ?_) (fun c_1 => ?_)
    · replace hf := if_t c_1 hf
      refine lv_iload hx hb dX0_rests_176 (lv_at hl 4 rfl) ?_
      exact x_iret X O rfl _ (Option.some.inj hf).symm rfl dX0_rests_178
    · replace hf := if_f c_1 hf
      refine lv_iconst (v := 0) hx hb dX0_rests_52 (by decide) ?_
      refine lv_istore (lv' := [(8, .int 0), (0, .ref ((hC hs) 0 0 0)), (3, .int x3), (4, .int x4), (5, .int x5), (6, .int x6), (7, .int x7)]) hx hb dX0_rests_53 hl (by decide) rfl (fun ls hl => ?_)
      exact w_C_X0_rests_b55 X K ih _ _ _ _ _ _ _ _ ls _ _ O (lv_sub hl [1, 2, 3, 4, 5, 6, 0] rfl) hf
def C_X0_rests (Δ : DT) (σ : ST) (p1 : Int32) (p2 : Int32) (p3 : Int32) : Option (ST × Int32) :=
  bn2 (C_X0_areTwo Δ σ p1 p2) (fun σ_1 r_2 => (if r_2 = 0 then some (σ_1, (-1)) else bn2 (C_X0_isSize Δ σ_1 p3) (fun σ_4 r_5 => (if r_5 = 0 then some (σ_4, (-1)) else bn2 (C_X1_isLawful Δ 0 σ_4 p1 p3) (fun σ_7 r_8 => bn2 (C_X1_isLawful Δ 0 σ_7 p2 p3) (fun σ_9 r_10 => C_X0_rests_b46 Δ FUEL σ_9 p3 r_8 r_10 0 0))))))
theorem m_C_X0_rests {l : Launch} {D : va_G} {d : Nat → ClassId} {hs : IX} {Δ : DT} {p1 : Int32} {p2 : Int32} {p3 : Int32} {σ : ST} {z : ST × Int32} (hf : C_X0_rests Δ σ p1 p2 p3 = some z) : XM l D d EN yX0_rests cX0_rests 11 (some .int) 423 0 0 [.ref ((hC hs) 0 0 0), .int p1, .int p2, .int p3] (hC hs) (xct (LC Δ) (okC Δ) (hC hs) d σ) (Qi D (pz z) (cw (hC hs) (LC Δ) (okC Δ) d)) := by
  refine XM.of (by decide +kernel) (Nat.le_of_ble_eq_true rfl) ?_
  intro p e s m below meth c A ls X _ K _ O hl
  have hl : lv_has ls 11 [(0, .ref ((hC hs) 0 0 0)), (1, .int p1), (2, .int p2), (3, .int p3)] := hl
  have hx := X.1.1; have hb := X.1.2.1
  rw [C_X0_rests] at hf
  refine lv_aload_n hx hb dX0_rests_0 rfl (lv_at hl 0 rfl) ?_
  refine lv_iload_n hx hb dX0_rests_1 rfl (lv_at hl 1 rfl) ?_
  refine lv_iload_n hx hb dX0_rests_2 rfl (lv_at hl 2 rfl) ?_
  obtain ⟨σ_1, r_2, hg, hf⟩ := bn2_s hf
  refine x_calli (x_runV (As := [.int p1, .int p2]) (rest := []) X K O (xct_obj rfl LC_0) rfl (m_C_X0_areTwo hg) EN_b EN_h (lw_V q808 q810 qs24 q111 q811) 2 rfl hl.1 (Nat.le_of_ble_eq_true rfl) hdV_X0_areTwo ⟨by decide, by decide⟩ ⟨Nat.le_refl _, Nat.le_refl _⟩ dX0_rests_3) (fun r u H locs hp O _ => ?_)
  cases hp
  have O : XH D A s.heap (hC hs) (xct (LC Δ) (okC Δ) (hC hs) d σ_1) H locs := O
  refine lv_if_eq (tgt := 16) hx hb dX0_rests_6 (by decide) (fun c_3 => ?_) (fun c_3 => ?_)
  · replace hf := if_t c_3 hf
    refine lv_iconst (v := (-1)) hx hb dX0_rests_16 (by decide) ?_
    exact x_iret X O rfl _ (Option.some.inj hf).symm rfl dX0_rests_17
  · replace hf := if_f c_3 hf
    refine lv_iload_n hx hb dX0_rests_9 rfl (lv_at hl 3 rfl) ?_
    obtain ⟨σ_4, r_5, hg, hf⟩ := bn2_s hf
    refine x_calli (x_runS (As := [.int p3]) (rest := []) X K O (m_C_X0_isSize hg) EN_b EN_h (lw_S q812 q813 q111 q814) 1 rfl hl.1 (Nat.le_of_ble_eq_true rfl) hdS_X0_isSize ⟨by decide, by decide⟩ ⟨Nat.le_refl _, Nat.le_refl _⟩ dX0_rests_10) (fun r u H locs hp O _ => ?_)
    cases hp
    have O : XH D A s.heap (hC hs) (xct (LC Δ) (okC Δ) (hC hs) d σ_4) H locs := O
    refine lv_if_ne (tgt := 18) hx hb dX0_rests_13 (by decide) (fun c_6 => ?_) (fun c_6 => ?_)
    · replace hf := if_f c_6 hf
      refine lv_aload_n hx hb dX0_rests_18 rfl (lv_at hl 0 rfl) ?_
      refine x_gF X K O 6 rfl LC_0 rfl rfl in_X0 (by decide) q379 dX0_rests_19 ?_
      refine lv_iload_n hx hb dX0_rests_22 rfl (lv_at hl 1 rfl) ?_
      refine lv_iload_n hx hb dX0_rests_23 rfl (lv_at hl 3 rfl) ?_
      obtain ⟨σ_7, r_8, hg, hf⟩ := bn2_s hf
      refine x_calli (x_runV (As := [.int p1, .int p3]) (rest := []) X K O (xct_obj rfl LC_1) rfl (m_C_X1_isLawful rfl hg) EN_b EN_h (lw_V q873 q855 q856 q119 q857) 2 rfl hl.1 (Nat.le_of_ble_eq_true rfl) hdV_X1_isLawful ⟨by decide, by decide⟩ ⟨Nat.le_refl _, Nat.le_refl _⟩ dX0_rests_24) (fun r u H locs hp O _ => ?_)
      cases hp
      have O : XH D A s.heap (hC hs) (xct (LC Δ) (okC Δ) (hC hs) d σ_7) H locs := O
      refine lv_istore (lv' := [(4, .int r_8), (0, .ref ((hC hs) 0 0 0)), (1, .int p1), (2, .int p2), (3, .int p3)]) hx hb dX0_rests_27 hl (by decide) rfl (fun ls hl => ?_)
      refine lv_aload_n hx hb dX0_rests_29 rfl (lv_at hl 1 rfl) ?_
      refine x_gF X K O 6 rfl LC_0 rfl rfl in_X0 (by decide) q379 dX0_rests_30 ?_
      refine lv_iload_n hx hb dX0_rests_33 rfl (lv_at hl 3 rfl) ?_
      refine lv_iload_n hx hb dX0_rests_34 rfl (lv_at hl 4 rfl) ?_
      obtain ⟨σ_9, r_10, hg, hf⟩ := bn2_s hf
      refine x_calli (x_runV (As := [.int p2, .int p3]) (rest := []) X K O (xct_obj rfl LC_1) rfl (m_C_X1_isLawful rfl hg) EN_b EN_h (lw_V q873 q855 q856 q119 q857) 2 rfl hl.1 (Nat.le_of_ble_eq_true rfl) hdV_X1_isLawful ⟨by decide, by decide⟩ ⟨Nat.le_refl _, Nat.le_refl _⟩ dX0_rests_35) (fun r u H locs hp O _ => ?_)
      cases hp
      have O : XH D A s.heap (hC hs) (xct (LC Δ) (okC Δ) (hC hs) d σ_9) H locs := O
      refine lv_istore (lv' := [(5, .int r_10), (4, .int r_8), (0, .ref ((hC hs) 0 0 0)), (1, .int p1), (2, .int p2), (3, .int p3)]) hx hb dX0_rests_38 hl (by decide) rfl (fun ls hl => ?_)
      refine lv_iconst (v := 0) hx hb dX0_rests_40 (by decide) ?_
      refine lv_istore (lv' := [(6, .int 0), (5, .int r_10), (4, .int r_8), (0, .ref ((hC hs) 0 0 0)), (1, .int p1), (2, .int p2), (3, .int p3)]) hx hb dX0_rests_41 hl (by decide) rfl (fun ls hl => ?_)
      refine lv_iconst (v := 0) hx hb dX0_rests_43 (by decide) ?_
      refine lv_istore (lv' := [(7, .int 0), (6, .int 0), (5, .int r_10), (4, .int r_8), (0, .ref ((hC hs) 0 0 0)), (1, .int p1), (2, .int p2), (3, .int p3)]) hx hb dX0_rests_44 hl (by decide) rfl (fun ls hl => ?_)
      exact w_C_X0_rests_b46 X K _ _ _ _ _ _ _ ls _ _ O (lv_sub hl [4, 7, 3, 2, 1, 0] rfl) hf
    · replace hf := if_t c_6 hf
      refine lv_iconst (v := (-1)) hx hb dX0_rests_16 (by decide) ?_
      exact x_iret X O rfl _ (Option.some.inj hf).symm rfl dX0_rests_17
def C_X0_whom_b135 (Δ : DT) (kb22 : ST → Int32 → Int32 → Int32 → Int32 → Option (ST × Int32)) (σ : ST) (x1 : Int32) (x2 : Int32) (x3 : Int32) (x4 : Int32) : Option (ST × Int32) :=
  lt1 (x4 + 1) (fun x4_1 => kb22 σ x1 x2 x3 x4_1)
theorem w_C_X0_whom_b135 {Δ : DT} (X : FX p m c meth s args RX0 cX0_whom 5 (some .int)) (K : XK D d A s) {z : ST × Int32} {kb22 : ST → Int32 → Int32 → Int32 → Int32 → Option (ST × Int32)} (hkb22 : ∀ (σ : ST) (x1 : Int32) (x2 : Int32) (x3 : Int32) (x4 : Int32) (ls : Array Slot) (H : Heap) (locs : List Loc), XH D A s.heap (hC hs) (xct (LC Δ) (okC Δ) (hC hs) d σ) H locs → lv_has ls 5 [(0, .ref ((hC hs) 0 0 0)), (1, .int x1), (2, .int x2), (3, .int x3), (4, .int x4)] → kb22 σ x1 x2 x3 x4 = some z → W p l e (rmD 846 0 0) s m args below meth c H locs 0 0 (MQ below (Qi D (pz z) (cw (hC hs) (LC Δ) (okC Δ) d) A) args s 0 0 A) (F0 m 22 ls [])) (σ : ST) (x1 : Int32) (x2 : Int32) (x3 : Int32) (x4 : Int32) (ls : Array Slot) (H : Heap) (locs : List Loc) (O : XH D A s.heap (hC hs) (xct (LC Δ) (okC Δ) (hC hs) d σ) H locs) (hl : lv_has ls 5 [(0, .ref ((hC hs) 0 0 0)), (1, .int x1), (2, .int x2), (3, .int x3), (4, .int x4)]) (hf : C_X0_whom_b135 Δ kb22 σ x1 x2 x3 x4 = some z) : W p l e (rmD 846 0 0) s m args below meth c H locs 0 0 (MQ below (Qi D (pz z) (cw (hC hs) (LC Δ) (okC Δ) d) A) args s 0 0 A) (F0 m 135 ls []) := by
  have hx := X.1.1; have hb := X.1.2.1
  rw [C_X0_whom_b135] at hf
  obtain ⟨x4_1, ex4_1, hf⟩ := lt1_s hf
  refine lv_iinc (v := x4_1) (lv' := [(4, .int x4_1), (0, .ref ((hC hs) 0 0 0)), (1, .int x1), (2, .int x2), (3, .int x3)]) hx hb dX0_whom_135 hl (k := 4) rfl (by rw [ex4_1]; rfl) (by decide) rfl (fun ls hl => ?_)
  refine lv_goto (tgt := 22) hx hb dX0_whom_138 (by decide) ?_
  exact hkb22 _ _ _ _ _ ls _ _ O (lv_sub hl [1, 2, 3, 4, 0] rfl) hf
def C_X0_whom_b132 (Δ : DT) (kb22 : ST → Int32 → Int32 → Int32 → Int32 → Option (ST × Int32)) (σ : ST) (x1 : Int32) (x2 : Int32) (x4 : Int32) : Option (ST × Int32) :=
  C_X0_whom_b135 Δ kb22 σ x1 x2 x4 x4
theorem w_C_X0_whom_b132 {Δ : DT} (X : FX p m c meth s args RX0 cX0_whom 5 (some .int)) (K : XK D d A s) {z : ST × Int32} {kb22 : ST → Int32 → Int32 → Int32 → Int32 → Option (ST × Int32)} (hkb22 : ∀ (σ : ST) (x1 : Int32) (x2 : Int32) (x3 : Int32) (x4 : Int32) (ls : Array Slot) (H : Heap) (locs : List Loc), XH D A s.heap (hC hs) (xct (LC Δ) (okC Δ) (hC hs) d σ) H locs → lv_has ls 5 [(0, .ref ((hC hs) 0 0 0)), (1, .int x1), (2, .int x2), (3, .int x3), (4, .int x4)] → kb22 σ x1 x2 x3 x4 = some z → W p l e (rmD 846 0 0) s m args below meth c H locs 0 0 (MQ below (Qi D (pz z) (cw (hC hs) (LC Δ) (okC Δ) d) A) args s 0 0 A) (F0 m 22 ls [])) (σ : ST) (x1 : Int32) (x2 : Int32) (x4 : Int32) (ls : Array Slot) (H : Heap) (locs : List Loc) (O : XH D A s.heap (hC hs) (xct (LC Δ) (okC Δ) (hC hs) d σ) H locs) (hl : lv_has ls 5 [(0, .ref ((hC hs) 0 0 0)), (1, .int x1), (2, .int x2), (4, .int x4)]) (hf : C_X0_whom_b132 Δ kb22 σ x1 x2 x4 = some z) : W p l e (rmD 846 0 0) s m args below meth c H locs 0 0 (MQ below (Qi D (pz z) (cw (hC hs) (LC Δ) (okC Δ) d) A) args s 0 0 A) (F0 m 132 ls []) := by
  have hx := X.1.1; have hb := X.1.2.1
  rw [C_X0_whom_b132] at hf
  refine lv_iload hx hb dX0_whom_132 (lv_at hl 3 rfl) ?_
  refine lv_istore_n (lv' := [(3, .int x4), (0, .ref ((hC hs) 0 0 0)), (1, .int x1), (2, .int x2), (4, .int x4)]) hx hb dX0_whom_134 rfl hl (by decide) rfl (fun ls hl => ?_)
  exact w_C_X0_whom_b135 X K hkb22 _ _ _ _ _ ls _ _ O (lv_sub hl [1, 2, 3, 0, 4] rfl) hf
def C_X0_whom_b22 (Δ : DT) : Nat → ST → Int32 → Int32 → Int32 → Int32 → Option (ST × Int32)
  | 0, _, _, _, _, _ => none
  | n + 1, σ, x1, x2, x3, x4 =>
    (if (gI σ 1 0 0 5) ≤ x4 then some (σ, x3) else (if x4 = x1 then C_X0_whom_b135 Δ (C_X0_whom_b22 Δ n) σ x1 x2 x3 x4 else bn2 (C_X1_isOut Δ 0 σ x4) (fun σ_3 r_4 => (if r_4 = 0 then bn2 (C_X1_deals Δ 0 σ_3 x1 x4 x2) (fun σ_6 r_7 => (if r_7 = 0 then C_X0_whom_b135 Δ (C_X0_whom_b22 Δ n) σ_6 x1 x2 x3 x4 else bn2 (C_X1_deals Δ 0 σ_6 x4 x1 x2) (fun σ_9 r_10 => (if r_10 = 0 then C_X0_whom_b135 Δ (C_X0_whom_b22 Δ n) σ_9 x1 x2 x3 x4 else bn2 (C_X1_breaks Δ 0 σ_9 x4 x1 x2) (fun σ_12 r_13 => (if r_13 = 0 then (if x3 = (-1) then C_X0_whom_b132 Δ (C_X0_whom_b22 Δ n) σ_12 x1 x2 x4 else ck (okI x4 12) (bn2 (C_X3_notch Δ 0 (Int32.toNatClampNeg x4) σ_12 0) (fun σ_17 r_18 => ck (okI x3 12) (bn2 (C_X3_notch Δ 0 (Int32.toNatClampNeg x3) σ_17 0) (fun σ_20 r_21 => (if r_18 ≤ r_21 then C_X0_whom_b135 Δ (C_X0_whom_b22 Δ n) σ_20 x1 x2 x3 x4 else C_X0_whom_b132 Δ (C_X0_whom_b22 Δ n) σ_20 x1 x2 x4)))))) else C_X0_whom_b135 Δ (C_X0_whom_b22 Δ n) σ_12 x1 x2 x3 x4)))))) else C_X0_whom_b135 Δ (C_X0_whom_b22 Δ n) σ_3 x1 x2 x3 x4))))
theorem w_C_X0_whom_b22 {Δ : DT} (X : FX p m c meth s args RX0 cX0_whom 5 (some .int)) (K : XK D d A s) {z : ST × Int32} : ∀ (n : Nat) (σ : ST) (x1 : Int32) (x2 : Int32) (x3 : Int32) (x4 : Int32) (ls : Array Slot) (H : Heap) (locs : List Loc), XH D A s.heap (hC hs) (xct (LC Δ) (okC Δ) (hC hs) d σ) H locs → lv_has ls 5 [(0, .ref ((hC hs) 0 0 0)), (1, .int x1), (2, .int x2), (3, .int x3), (4, .int x4)] → C_X0_whom_b22 Δ n σ x1 x2 x3 x4 = some z → W p l e (rmD 846 0 0) s m args below meth c H locs 0 0 (MQ below (Qi D (pz z) (cw (hC hs) (LC Δ) (okC Δ) d) A) args s 0 0 A) (F0 m 22 ls []) := by
  have hx := X.1.1; have hb := X.1.2.1
  intro n
  induction n with
  | zero =>
    intro σ x1 x2 x3 x4 ls H locs O hl hf
    exact absurd hf (fun q => by cases q)
  | succ n ih =>
    intro σ x1 x2 x3 x4 ls H locs O hl hf
    rw [C_X0_whom_b22] at hf
    refine lv_iload hx hb dX0_whom_22 (lv_at hl 4 rfl) ?_
    refine lv_aload_n hx hb dX0_whom_24 rfl (lv_at hl 0 rfl) ?_
    refine x_gF X K O 6 rfl LC_0 rfl rfl in_X0 (by decide) q379 dX0_whom_25 ?_
    refine x_gIN X K O 5 rfl LC_1 rfl rfl in_X1 (by decide) q304 dX0_whom_28 ?_
    refine lv_icmp_ge (tgt := 141) hx hb dX0_whom_31 (by decide) (fun c_1 => ?_) (fun c_1 => ?_)
    · replace hf := if_t c_1 hf
      refine lv_iload_n hx hb dX0_whom_141 rfl (lv_at hl 3 rfl) ?_
      exact x_iret X O rfl _ (Option.some.inj hf).symm rfl dX0_whom_142
    · replace hf := if_f c_1 hf
      refine lv_iload hx hb dX0_whom_34 (lv_at hl 4 rfl) ?_
      refine lv_iload_n hx hb dX0_whom_36 rfl (lv_at hl 1 rfl) ?_
      refine lv_icmp_eq (tgt := 135) hx hb dX0_whom_37 (by decide) (fun c_2 => ?_) (fun c_2 => ?_)
      · replace hf := if_t c_2 hf
        exact w_C_X0_whom_b135 X K ih _ _ _ _ _ ls _ _ O (lv_sub hl [0, 1, 2, 3, 4] rfl) hf
      · replace hf := if_f c_2 hf
        refine lv_aload_n hx hb dX0_whom_40 rfl (lv_at hl 0 rfl) ?_
        refine x_gF X K O 6 rfl LC_0 rfl rfl in_X0 (by decide) q379 dX0_whom_41 ?_
        refine lv_iload hx hb dX0_whom_44 (lv_at hl 4 rfl) ?_
        obtain ⟨σ_3, r_4, hg, hf⟩ := bn2_s hf
        refine x_calli (x_runV (As := [.int x4]) (rest := []) X K O (xct_obj rfl LC_1) rfl (m_C_X1_isOut rfl hg) EN_b EN_h (lw_V q1040 q886 q887 q119 q888) 1 rfl hl.1 (Nat.le_of_ble_eq_true rfl) hdV_X1_isOut ⟨by decide, by decide⟩ ⟨Nat.le_refl _, Nat.le_refl _⟩ dX0_whom_46) (fun r u H locs hp O _ => ?_)
        cases hp
        have O : XH D A s.heap (hC hs) (xct (LC Δ) (okC Δ) (hC hs) d σ_3) H locs := O
        refine lv_if_ne (tgt := 135) hx hb dX0_whom_49 (by decide) (fun c_5 => ?_) (fun c_5 => ?_)
        · replace hf := if_f c_5 hf
          exact w_C_X0_whom_b135 X K ih _ _ _ _ _ ls _ _ O (lv_sub hl [0, 1, 2, 3, 4] rfl) hf
        · replace hf := if_t c_5 hf
          refine lv_aload_n hx hb dX0_whom_52 rfl (lv_at hl 0 rfl) ?_
          refine x_gF X K O 6 rfl LC_0 rfl rfl in_X0 (by decide) q379 dX0_whom_53 ?_
          refine lv_iload_n hx hb dX0_whom_56 rfl (lv_at hl 1 rfl) ?_
          refine lv_iload hx hb dX0_whom_57 (lv_at hl 4 rfl) ?_
          refine lv_iload_n hx hb dX0_whom_59 rfl (lv_at hl 2 rfl) ?_
          obtain ⟨σ_6, r_7, hg, hf⟩ := bn2_s hf
          refine x_calli (x_runV (As := [.int x1, .int x4, .int x2]) (rest := []) X K O (xct_obj rfl LC_1) rfl (m_C_X1_deals rfl hg) EN_b EN_h (lw_V q815 q816 q817 q119 q818) 3 rfl hl.1 (Nat.le_of_ble_eq_true rfl) hdV_X1_deals ⟨by decide, by decide⟩ ⟨Nat.le_refl _, Nat.le_refl _⟩ dX0_whom_60) (fun r u H locs hp O _ => ?_)
          cases hp
          have O : XH D A s.heap (hC hs) (xct (LC Δ) (okC Δ) (hC hs) d σ_6) H locs := O
          refine lv_if_eq (tgt := 135) hx hb dX0_whom_63 (by decide) (fun c_8 => ?_) (fun c_8 => ?_)
          · replace hf := if_t c_8 hf
            exact w_C_X0_whom_b135 X K ih _ _ _ _ _ ls _ _ O (lv_sub hl [0, 1, 2, 3, 4] rfl) hf
          · replace hf := if_f c_8 hf
            refine lv_aload_n hx hb dX0_whom_66 rfl (lv_at hl 0 rfl) ?_
            refine x_gF X K O 6 rfl LC_0 rfl rfl in_X0 (by decide) q379 dX0_whom_67 ?_
            refine lv_iload hx hb dX0_whom_70 (lv_at hl 4 rfl) ?_
            refine lv_iload_n hx hb dX0_whom_72 rfl (lv_at hl 1 rfl) ?_
            refine lv_iload_n hx hb dX0_whom_73 rfl (lv_at hl 2 rfl) ?_
            obtain ⟨σ_9, r_10, hg, hf⟩ := bn2_s hf
            refine x_calli (x_runV (As := [.int x4, .int x1, .int x2]) (rest := []) X K O (xct_obj rfl LC_1) rfl (m_C_X1_deals rfl hg) EN_b EN_h (lw_V q815 q816 q817 q119 q818) 3 rfl hl.1 (Nat.le_of_ble_eq_true rfl) hdV_X1_deals ⟨by decide, by decide⟩ ⟨Nat.le_refl _, Nat.le_refl _⟩ dX0_whom_74) (fun r u H locs hp O _ => ?_)
            cases hp
            have O : XH D A s.heap (hC hs) (xct (LC Δ) (okC Δ) (hC hs) d σ_9) H locs := O
            refine lv_if_eq (tgt := 135) hx hb dX0_whom_77 (by decide) (fun c_11 => ?_) (fun c_11 => ?_)
            · replace hf := if_t c_11 hf
              exact w_C_X0_whom_b135 X K ih _ _ _ _ _ ls _ _ O (lv_sub hl [0, 1, 2, 3, 4] rfl) hf
            · replace hf := if_f c_11 hf
              refine lv_aload_n hx hb dX0_whom_80 rfl (lv_at hl 0 rfl) ?_
              refine x_gF X K O 6 rfl LC_0 rfl rfl in_X0 (by decide) q379 dX0_whom_81 ?_
              refine lv_iload hx hb dX0_whom_84 (lv_at hl 4 rfl) ?_
              refine lv_iload_n hx hb dX0_whom_86 rfl (lv_at hl 1 rfl) ?_
              refine lv_iload_n hx hb dX0_whom_87 rfl (lv_at hl 2 rfl) ?_
              obtain ⟨σ_12, r_13, hg, hf⟩ := bn2_s hf
              refine x_calli (x_runV (As := [.int x4, .int x1, .int x2]) (rest := []) X K O (xct_obj rfl LC_1) rfl (m_C_X1_breaks rfl hg) EN_b EN_h (lw_V q869 q870 q871 q119 q872) 3 rfl hl.1 (Nat.le_of_ble_eq_true rfl) hdV_X1_breaks ⟨by decide, by decide⟩ ⟨Nat.le_refl _, Nat.le_refl _⟩ dX0_whom_88) (fun r u H locs hp O _ => ?_)
              cases hp
              have O : XH D A s.heap (hC hs) (xct (LC Δ) (okC Δ) (hC hs) d σ_12) H locs := O
              refine lv_if_eq (tgt := 97) hx hb dX0_whom_91 (by decide) (fun c_14 => ?_) (fun c_14 => ?_)
              · replace hf := if_t c_14 hf
                refine lv_iload_n hx hb dX0_whom_97 rfl (lv_at hl 3 rfl) ?_
                refine lv_iconst (v := (-1)) hx hb dX0_whom_98 (by decide) ?_
                refine lv_icmp_eq (tgt := 132) hx hb dX0_whom_99 (by decide) (fun c_15 => ?_) (fun c_15 => ?_)
                · replace hf := if_t c_15 hf
                  exact w_C_X0_whom_b132 X K ih _ _ _ _ ls _ _ O (lv_sub hl [0, 1, 2, 4] rfl) hf
                · replace hf := if_f c_15 hf
                  refine lv_aload_n hx hb dX0_whom_102 rfl (lv_at hl 0 rfl) ?_
                  refine x_gF X K O 6 rfl LC_0 rfl rfl in_X0 (by decide) q379 dX0_whom_103 ?_
                  refine x_gFN X K O 0 rfl LC_1 rfl rfl in_X1 (by decide) q295 dX0_whom_106 ?_
                  refine lv_iload hx hb dX0_whom_109 (lv_at hl 4 rfl) ?_
                  obtain ⟨c_16, hf⟩ := ck_s hf
                  refine x_ald X K O 3 rfl LC_5 (by decide) rfl rfl c_16 (j := (Int32.toNatClampNeg x4)) rfl dX0_whom_111 ?_
                  refine lv_iconst (v := 0) hx hb dX0_whom_112 (by decide) ?_
                  obtain ⟨σ_17, r_18, hg, hf⟩ := bn2_s hf
                  refine x_calli (x_runV (As := [.int 0]) (rest := []) X K O (xct_obj (oks_b (B := 1) (b := 0) rfl (okI_lt c_16)) LC_8) rfl (m_C_X3_notch (oks_b (B := 1) (b := 0) rfl (okI_lt c_16)) hg) EN_b EN_h (lw_V q1041 q851 q852 q121 q853) 1 rfl hl.1 (Nat.le_of_ble_eq_true rfl) hdV_X3_notch ⟨by decide, by decide⟩ ⟨Nat.le_refl _, Nat.le_refl _⟩ dX0_whom_113) (fun r u H locs hp O _ => ?_)
                  cases hp
                  have O : XH D A s.heap (hC hs) (xct (LC Δ) (okC Δ) (hC hs) d σ_17) H locs := O
                  refine lv_aload_n hx hb dX0_whom_116 rfl (lv_at hl 0 rfl) ?_
                  refine x_gF X K O 6 rfl LC_0 rfl rfl in_X0 (by decide) q379 dX0_whom_117 ?_
                  refine x_gFN X K O 0 rfl LC_1 rfl rfl in_X1 (by decide) q295 dX0_whom_120 ?_
                  refine lv_iload_n hx hb dX0_whom_123 rfl (lv_at hl 3 rfl) ?_
                  obtain ⟨c_19, hf⟩ := ck_s hf
                  refine x_ald X K O 3 rfl LC_5 (by decide) rfl rfl c_19 (j := (Int32.toNatClampNeg x3)) rfl dX0_whom_124 ?_
                  refine lv_iconst (v := 0) hx hb dX0_whom_125 (by decide) ?_
                  obtain ⟨σ_20, r_21, hg, hf⟩ := bn2_s hf
                  refine x_calli (x_runV (As := [.int 0]) (rest := [.int r_18]) X K O (xct_obj (oks_b (B := 1) (b := 0) rfl (okI_lt c_19)) LC_8) rfl (m_C_X3_notch (oks_b (B := 1) (b := 0) rfl (okI_lt c_19)) hg) EN_b EN_h (lw_V q1041 q851 q852 q121 q853) 1 rfl hl.1 (Nat.le_of_ble_eq_true rfl) hdV_X3_notch ⟨by decide, by decide⟩ ⟨Nat.le_refl _, Nat.le_refl _⟩ dX0_whom_126) (fun r u H locs hp O _ => ?_)
                  cases hp
                  have O : XH D A s.heap (hC hs) (xct (LC Δ) (okC Δ) (hC hs) d σ_20) H locs := O
                  refine lv_icmp_le (tgt := 135) hx hb dX0_whom_129 (by decide) (fun c_22 => ?_) (fun c_22 => ?_)
                  · replace hf := if_t c_22 hf
                    exact w_C_X0_whom_b135 X K ih _ _ _ _ _ ls _ _ O (lv_sub hl [0, 1, 2, 3, 4] rfl) hf
                  · replace hf := if_f c_22 hf
                    exact w_C_X0_whom_b132 X K ih _ _ _ _ ls _ _ O (lv_sub hl [0, 1, 2, 4] rfl) hf
              · replace hf := if_f c_14 hf
                refine lv_goto (tgt := 135) hx hb dX0_whom_94 (by decide) ?_
                exact w_C_X0_whom_b135 X K ih _ _ _ _ _ ls _ _ O (lv_sub hl [0, 1, 2, 3, 4] rfl) hf
def C_X0_whom (Δ : DT) (σ : ST) (p1 : Int32) (p2 : Int32) : Option (ST × Int32) :=
  bn2 (C_X0_isOne Δ σ p1) (fun σ_1 r_2 => (if r_2 = 0 then some (σ_1, (-1)) else bn2 (C_X0_isSize Δ σ_1 p2) (fun σ_4 r_5 => (if r_5 = 0 then some (σ_4, (-1)) else C_X0_whom_b22 Δ FUEL σ_4 p1 p2 (-1) 0))))
theorem m_C_X0_whom {l : Launch} {D : va_G} {d : Nat → ClassId} {hs : IX} {Δ : DT} {p1 : Int32} {p2 : Int32} {σ : ST} {z : ST × Int32} (hf : C_X0_whom Δ σ p1 p2 = some z) : XM l D d EN yX0_whom cX0_whom 5 (some .int) 846 0 0 [.ref ((hC hs) 0 0 0), .int p1, .int p2] (hC hs) (xct (LC Δ) (okC Δ) (hC hs) d σ) (Qi D (pz z) (cw (hC hs) (LC Δ) (okC Δ) d)) := by
  refine XM.of (by decide +kernel) (Nat.le_of_ble_eq_true rfl) ?_
  intro p e s m below meth c A ls X _ K _ O hl
  have hl : lv_has ls 5 [(0, .ref ((hC hs) 0 0 0)), (1, .int p1), (2, .int p2)] := hl
  have hx := X.1.1; have hb := X.1.2.1
  rw [C_X0_whom] at hf
  refine lv_aload_n hx hb dX0_whom_0 rfl (lv_at hl 0 rfl) ?_
  refine lv_iload_n hx hb dX0_whom_1 rfl (lv_at hl 1 rfl) ?_
  obtain ⟨σ_1, r_2, hg, hf⟩ := bn2_s hf
  refine x_calli (x_runV (As := [.int p1]) (rest := []) X K O (xct_obj rfl LC_0) rfl (m_C_X0_isOne hg) EN_b EN_h (lw_V q791 q793 qs23 q111 q794) 1 rfl hl.1 (Nat.le_of_ble_eq_true rfl) hdV_X0_isOne ⟨by decide, by decide⟩ ⟨Nat.le_refl _, Nat.le_refl _⟩ dX0_whom_2) (fun r u H locs hp O _ => ?_)
  cases hp
  have O : XH D A s.heap (hC hs) (xct (LC Δ) (okC Δ) (hC hs) d σ_1) H locs := O
  refine lv_if_eq (tgt := 15) hx hb dX0_whom_5 (by decide) (fun c_3 => ?_) (fun c_3 => ?_)
  · replace hf := if_t c_3 hf
    refine lv_iconst (v := (-1)) hx hb dX0_whom_15 (by decide) ?_
    exact x_iret X O rfl _ (Option.some.inj hf).symm rfl dX0_whom_16
  · replace hf := if_f c_3 hf
    refine lv_iload_n hx hb dX0_whom_8 rfl (lv_at hl 2 rfl) ?_
    obtain ⟨σ_4, r_5, hg, hf⟩ := bn2_s hf
    refine x_calli (x_runS (As := [.int p2]) (rest := []) X K O (m_C_X0_isSize hg) EN_b EN_h (lw_S q812 q813 q111 q814) 1 rfl hl.1 (Nat.le_of_ble_eq_true rfl) hdS_X0_isSize ⟨by decide, by decide⟩ ⟨Nat.le_refl _, Nat.le_refl _⟩ dX0_whom_9) (fun r u H locs hp O _ => ?_)
    cases hp
    have O : XH D A s.heap (hC hs) (xct (LC Δ) (okC Δ) (hC hs) d σ_4) H locs := O
    refine lv_if_ne (tgt := 17) hx hb dX0_whom_12 (by decide) (fun c_6 => ?_) (fun c_6 => ?_)
    · replace hf := if_f c_6 hf
      refine lv_iconst (v := (-1)) hx hb dX0_whom_17 (by decide) ?_
      refine lv_istore_n (lv' := [(3, .int (-1)), (0, .ref ((hC hs) 0 0 0)), (1, .int p1), (2, .int p2)]) hx hb dX0_whom_18 rfl hl (by decide) rfl (fun ls hl => ?_)
      refine lv_iconst (v := 0) hx hb dX0_whom_19 (by decide) ?_
      refine lv_istore (lv' := [(4, .int 0), (3, .int (-1)), (0, .ref ((hC hs) 0 0 0)), (1, .int p1), (2, .int p2)]) hx hb dX0_whom_20 hl (by decide) rfl (fun ls hl => ?_)
      exact w_C_X0_whom_b22 X K _ _ _ _ _ _ ls _ _ O (lv_sub hl [2, 3, 4, 1, 0] rfl) hf
    · replace hf := if_t c_6 hf
      refine lv_iconst (v := (-1)) hx hb dX0_whom_15 (by decide) ?_
      exact x_iret X O rfl _ (Option.some.inj hf).symm rfl dX0_whom_16
def C_X0_isSafe_b2 (Δ : DT) : Nat → ST → Int32 → Int32 → Option (ST × Int32)
  | 0, _, _, _ => none
  | n + 1, σ, x1, x2 =>
    (if 12 < x2 then some (σ, 1) else bn2 (C_X1_isLawful Δ 0 σ x1 x2) (fun σ_2 r_3 => (if r_3 = 0 then lt1 (x2 + 1) (fun x2_5 => (C_X0_isSafe_b2 Δ n) σ_2 x1 x2_5) else some (σ_2, 0))))
theorem w_C_X0_isSafe_b2 {Δ : DT} (X : FX p m c meth s args RX0 cX0_isSafe 3 (some .boolean)) (K : XK D d A s) {z : ST × Int32} : ∀ (n : Nat) (σ : ST) (x1 : Int32) (x2 : Int32) (ls : Array Slot) (H : Heap) (locs : List Loc), XH D A s.heap (hC hs) (xct (LC Δ) (okC Δ) (hC hs) d σ) H locs → lv_has ls 3 [(0, .ref ((hC hs) 0 0 0)), (1, .int x1), (2, .int x2)] → C_X0_isSafe_b2 Δ n σ x1 x2 = some z → W p l e (rmD 423 0 0) s m args below meth c H locs 0 0 (MQ below (Qi D (pz z) (cw (hC hs) (LC Δ) (okC Δ) d) A) args s 0 0 A) (F0 m 2 ls []) := by
  have hx := X.1.1; have hb := X.1.2.1
  intro n
  induction n with
  | zero =>
    intro σ x1 x2 ls H locs O hl hf
    exact absurd hf (fun q => by cases q)
  | succ n ih =>
    intro σ x1 x2 ls H locs O hl hf
    rw [C_X0_isSafe_b2] at hf
    refine lv_iload_n hx hb dX0_isSafe_2 rfl (lv_at hl 2 rfl) ?_
    refine lv_bipush (v := 12) hx hb dX0_isSafe_3 (by decide) ?_
    refine lv_icmp_gt (tgt := 28) hx hb dX0_isSafe_5 (by decide) (fun c_1 => ?_) (fun c_1 => ?_)
    · replace hf := if_t c_1 hf
      refine lv_iconst (v := 1) hx hb dX0_isSafe_28 (by decide) ?_
      exact x_zret X O rfl rfl _ (Option.some.inj hf).symm rfl dX0_isSafe_29
    · replace hf := if_f c_1 hf
      refine lv_aload_n hx hb dX0_isSafe_8 rfl (lv_at hl 0 rfl) ?_
      refine x_gF X K O 6 rfl LC_0 rfl rfl in_X0 (by decide) q379 dX0_isSafe_9 ?_
      refine lv_iload_n hx hb dX0_isSafe_12 rfl (lv_at hl 1 rfl) ?_
      refine lv_iload_n hx hb dX0_isSafe_13 rfl (lv_at hl 2 rfl) ?_
      obtain ⟨σ_2, r_3, hg, hf⟩ := bn2_s hf
      refine x_calli (x_runV (As := [.int x1, .int x2]) (rest := []) X K O (xct_obj rfl LC_1) rfl (m_C_X1_isLawful rfl hg) EN_b EN_h (lw_V q873 q855 q856 q119 q857) 2 rfl hl.1 (Nat.le_of_ble_eq_true rfl) hdV_X1_isLawful ⟨by decide, by decide⟩ ⟨Nat.le_refl _, Nat.le_refl _⟩ dX0_isSafe_14) (fun r u H locs hp O _ => ?_)
      cases hp
      have O : XH D A s.heap (hC hs) (xct (LC Δ) (okC Δ) (hC hs) d σ_2) H locs := O
      refine lv_if_eq (tgt := 22) hx hb dX0_isSafe_17 (by decide) (fun c_4 => ?_) (fun c_4 => ?_)
      · replace hf := if_t c_4 hf
        obtain ⟨x2_5, ex2_5, hf⟩ := lt1_s hf
        refine lv_iinc (v := x2_5) (lv' := [(2, .int x2_5), (0, .ref ((hC hs) 0 0 0)), (1, .int x1)]) hx hb dX0_isSafe_22 hl (k := 2) rfl (by rw [ex2_5]; rfl) (by decide) rfl (fun ls hl => ?_)
        refine lv_goto (tgt := 2) hx hb dX0_isSafe_25 (by decide) ?_
        exact ih _ _ _ ls _ _ O (lv_sub hl [1, 2, 0] rfl) hf
      · replace hf := if_f c_4 hf
        refine lv_iconst (v := 0) hx hb dX0_isSafe_20 (by decide) ?_
        exact x_zret X O rfl rfl _ (Option.some.inj hf).symm rfl dX0_isSafe_21
def C_X0_isSafe (Δ : DT) (σ : ST) (p1 : Int32) : Option (ST × Int32) :=
  C_X0_isSafe_b2 Δ FUEL σ p1 1
theorem m_C_X0_isSafe {l : Launch} {D : va_G} {d : Nat → ClassId} {hs : IX} {Δ : DT} {p1 : Int32} {σ : ST} {z : ST × Int32} (hf : C_X0_isSafe Δ σ p1 = some z) : XM l D d EN yX0_isSafe cX0_isSafe 3 (some .boolean) 423 0 0 [.ref ((hC hs) 0 0 0), .int p1] (hC hs) (xct (LC Δ) (okC Δ) (hC hs) d σ) (Qi D (pz z) (cw (hC hs) (LC Δ) (okC Δ) d)) := by
  refine XM.of (by decide +kernel) (Nat.le_of_ble_eq_true rfl) ?_
  intro p e s m below meth c A ls X _ K _ O hl
  have hl : lv_has ls 3 [(0, .ref ((hC hs) 0 0 0)), (1, .int p1)] := hl
  have hx := X.1.1; have hb := X.1.2.1
  rw [C_X0_isSafe] at hf
  refine lv_iconst (v := 1) hx hb dX0_isSafe_0 (by decide) ?_
  refine lv_istore_n (lv' := [(2, .int 1), (0, .ref ((hC hs) 0 0 0)), (1, .int p1)]) hx hb dX0_isSafe_1 rfl hl (by decide) rfl (fun ls hl => ?_)
  exact w_C_X0_isSafe_b2 X K _ _ _ _ ls _ _ O (lv_sub hl [1, 2, 0] rfl) hf
theorem hdV_X0_isSafe : yX0_isSafe.cls = RX0 ∧ (yX0_isSafe.cls ≠ "java/lang/invoke/MethodHandle" ∧ yX0_isSafe.cls ≠ "java/lang/invoke/VarHandle" ∧ (parseMethodDescriptor yX0_isSafe.desc).map (fun d => d.parameters.length) = some 1) := by decide +kernel
def C_X0_safe_b31 (Δ : DT) (kb4 : ST → Int32 → Int32 → Option (ST × Int32)) (σ : ST) (x2 : Int32) (s0 : Int32) (s1 : Int32) : Option (ST × Int32) :=
  lt1 (s0 ||| s1) (fun x1_1 => lt1 (x2 + 1) (fun x2_2 => kb4 σ x1_1 x2_2))
theorem w_C_X0_safe_b31 {Δ : DT} (X : FX p m c meth s args RX0 cX0_safe 3 (some .int)) (K : XK D d A s) {z : ST × Int32} {kb4 : ST → Int32 → Int32 → Option (ST × Int32)} (hkb4 : ∀ (σ : ST) (x1 : Int32) (x2 : Int32) (ls : Array Slot) (H : Heap) (locs : List Loc), XH D A s.heap (hC hs) (xct (LC Δ) (okC Δ) (hC hs) d σ) H locs → lv_has ls 3 [(0, .ref ((hC hs) 0 0 0)), (1, .int x1), (2, .int x2)] → kb4 σ x1 x2 = some z → W p l e (rmD 424 0 0) s m args below meth c H locs 0 0 (MQ below (Qi D (pz z) (cw (hC hs) (LC Δ) (okC Δ) d) A) args s 0 0 A) (F0 m 4 ls [])) (σ : ST) (x2 : Int32) (s0 : Int32) (s1 : Int32) (ls : Array Slot) (H : Heap) (locs : List Loc) (O : XH D A s.heap (hC hs) (xct (LC Δ) (okC Δ) (hC hs) d σ) H locs) (hl : lv_has ls 3 [(0, .ref ((hC hs) 0 0 0)), (2, .int x2)]) (hf : C_X0_safe_b31 Δ kb4 σ x2 s0 s1 = some z) : W p l e (rmD 424 0 0) s m args below meth c H locs 0 0 (MQ below (Qi D (pz z) (cw (hC hs) (LC Δ) (okC Δ) d) A) args s 0 0 A) (F0 m 31 ls [.int s1, .int s0]) := by
  have hx := X.1.1; have hb := X.1.2.1
  rw [C_X0_safe_b31] at hf
  refine lv_ior hx hb dX0_safe_31 ?_
  obtain ⟨x1_1, ex1_1, hf⟩ := lt1_s hf
  refine x_top (w := .int x1_1) (by rw [ex1_1]) ?_
  refine lv_istore_n (lv' := [(1, .int x1_1), (0, .ref ((hC hs) 0 0 0)), (2, .int x2)]) hx hb dX0_safe_32 rfl hl (by decide) rfl (fun ls hl => ?_)
  obtain ⟨x2_2, ex2_2, hf⟩ := lt1_s hf
  refine lv_iinc (v := x2_2) (lv' := [(2, .int x2_2), (1, .int x1_1), (0, .ref ((hC hs) 0 0 0))]) hx hb dX0_safe_33 hl (k := 2) rfl (by rw [ex2_2]; rfl) (by decide) rfl (fun ls hl => ?_)
  refine lv_goto (tgt := 4) hx hb dX0_safe_36 (by decide) ?_
  exact hkb4 _ _ _ ls _ _ O (lv_sub hl [2, 1, 0] rfl) hf
def C_X0_safe_b4 (Δ : DT) : Nat → ST → Int32 → Int32 → Option (ST × Int32)
  | 0, _, _, _ => none
  | n + 1, σ, x1, x2 =>
    (if (gI σ 1 0 0 5) ≤ x2 then some (σ, x1) else bn2 (C_X0_isSafe Δ σ x2) (fun σ_2 r_3 => (if r_3 = 0 then C_X0_safe_b31 Δ (C_X0_safe_b4 Δ n) σ_2 x2 x1 0 else C_X0_safe_b31 Δ (C_X0_safe_b4 Δ n) σ_2 x2 x1 (1 <<< (x2 &&& 31)))))
theorem w_C_X0_safe_b4 {Δ : DT} (X : FX p m c meth s args RX0 cX0_safe 3 (some .int)) (K : XK D d A s) {z : ST × Int32} : ∀ (n : Nat) (σ : ST) (x1 : Int32) (x2 : Int32) (ls : Array Slot) (H : Heap) (locs : List Loc), XH D A s.heap (hC hs) (xct (LC Δ) (okC Δ) (hC hs) d σ) H locs → lv_has ls 3 [(0, .ref ((hC hs) 0 0 0)), (1, .int x1), (2, .int x2)] → C_X0_safe_b4 Δ n σ x1 x2 = some z → W p l e (rmD 424 0 0) s m args below meth c H locs 0 0 (MQ below (Qi D (pz z) (cw (hC hs) (LC Δ) (okC Δ) d) A) args s 0 0 A) (F0 m 4 ls []) := by
  have hx := X.1.1; have hb := X.1.2.1
  intro n
  induction n with
  | zero =>
    intro σ x1 x2 ls H locs O hl hf
    exact absurd hf (fun q => by cases q)
  | succ n ih =>
    intro σ x1 x2 ls H locs O hl hf
    rw [C_X0_safe_b4] at hf
    refine lv_iload_n hx hb dX0_safe_4 rfl (lv_at hl 2 rfl) ?_
    refine lv_aload_n hx hb dX0_safe_5 rfl (lv_at hl 0 rfl) ?_
    refine x_gF X K O 6 rfl LC_0 rfl rfl in_X0 (by decide) q379 dX0_safe_6 ?_
    refine x_gIN X K O 5 rfl LC_1 rfl rfl in_X1 (by decide) q304 dX0_safe_9 ?_
    refine lv_icmp_ge (tgt := 39) hx hb dX0_safe_12 (by decide) (fun c_1 => ?_) (fun c_1 => ?_)
    · replace hf := if_t c_1 hf
      refine lv_iload_n hx hb dX0_safe_39 rfl (lv_at hl 1 rfl) ?_
      exact x_iret X O rfl _ (Option.some.inj hf).symm rfl dX0_safe_40
    · replace hf := if_f c_1 hf
      refine lv_iload_n hx hb dX0_safe_15 rfl (lv_at hl 1 rfl) ?_
      refine lv_aload_n hx hb dX0_safe_16 rfl (lv_at hl 0 rfl) ?_
      refine lv_iload_n hx hb dX0_safe_17 rfl (lv_at hl 2 rfl) ?_
      obtain ⟨σ_2, r_3, hg, hf⟩ := bn2_s hf
      refine x_calli (x_runV (As := [.int x2]) (rest := [.int x1]) X K O (xct_obj rfl LC_0) rfl (m_C_X0_isSafe hg) EN_b EN_h (lw_V q1046 q1048 qs41 q111 q1049) 1 rfl hl.1 (Nat.le_of_ble_eq_true rfl) hdV_X0_isSafe ⟨by decide, by decide⟩ ⟨Nat.le_refl _, Nat.le_refl _⟩ dX0_safe_18) (fun r u H locs hp O _ => ?_)
      cases hp
      have O : XH D A s.heap (hC hs) (xct (LC Δ) (okC Δ) (hC hs) d σ_2) H locs := O
      refine lv_if_eq (tgt := 30) hx hb dX0_safe_21 (by decide) (fun c_4 => ?_) (fun c_4 => ?_)
      · replace hf := if_t c_4 hf
        refine lv_iconst (v := 0) hx hb dX0_safe_30 (by decide) ?_
        exact w_C_X0_safe_b31 X K ih _ _ _ _ ls _ _ O (lv_sub hl [0, 2] rfl) hf
      · replace hf := if_f c_4 hf
        refine lv_iconst (v := 1) hx hb dX0_safe_24 (by decide) ?_
        refine lv_iload_n hx hb dX0_safe_25 rfl (lv_at hl 2 rfl) ?_
        refine lv_ishl hx hb dX0_safe_26 ?_
        refine lv_goto (tgt := 31) hx hb dX0_safe_27 (by decide) ?_
        exact w_C_X0_safe_b31 X K ih _ _ _ _ ls _ _ O (lv_sub hl [0, 2] rfl) hf
def C_X0_safe (Δ : DT) (σ : ST) : Option (ST × Int32) :=
  C_X0_safe_b4 Δ FUEL σ 0 0
theorem m_C_X0_safe {l : Launch} {D : va_G} {d : Nat → ClassId} {hs : IX} {Δ : DT} {σ : ST} {z : ST × Int32} (hf : C_X0_safe Δ σ = some z) : XM l D d EN yX0_safe cX0_safe 3 (some .int) 424 0 0 [.ref ((hC hs) 0 0 0)] (hC hs) (xct (LC Δ) (okC Δ) (hC hs) d σ) (Qi D (pz z) (cw (hC hs) (LC Δ) (okC Δ) d)) := by
  refine XM.of (by decide +kernel) (Nat.le_of_ble_eq_true rfl) ?_
  intro p e s m below meth c A ls X _ K _ O hl
  have hl : lv_has ls 3 [(0, .ref ((hC hs) 0 0 0))] := hl
  have hx := X.1.1; have hb := X.1.2.1
  rw [C_X0_safe] at hf
  refine lv_iconst (v := 0) hx hb dX0_safe_0 (by decide) ?_
  refine lv_istore_n (lv' := [(1, .int 0), (0, .ref ((hC hs) 0 0 0))]) hx hb dX0_safe_1 rfl hl (by decide) rfl (fun ls hl => ?_)
  refine lv_iconst (v := 0) hx hb dX0_safe_2 (by decide) ?_
  refine lv_istore_n (lv' := [(2, .int 0), (1, .int 0), (0, .ref ((hC hs) 0 0 0))]) hx hb dX0_safe_3 rfl hl (by decide) rfl (fun ls hl => ?_)
  exact w_C_X0_safe_b4 X K _ _ _ _ ls _ _ O (lv_sub hl [2, 1, 0] rfl) hf
def C_X0_isAhead (Δ : DT) (σ : ST) (p1 : Int32) (p2 : Int32) : Option (ST × Int32) :=
  ck (okI p1 12) (ck (okI p2 12) (bn2 (C_X3_notch Δ 0 (Int32.toNatClampNeg p1) σ 0) (fun σ_3 r_4 => bn2 (C_X3_notch Δ 0 (Int32.toNatClampNeg p1) σ_3 1) (fun σ_5 r_6 => lt1 (r_4 - r_6) (fun x5_7 => bn2 (C_X3_notch Δ 0 (Int32.toNatClampNeg p2) σ_5 0) (fun σ_8 r_9 => bn2 (C_X3_notch Δ 0 (Int32.toNatClampNeg p2) σ_8 1) (fun σ_10 r_11 => lt1 (r_9 - r_11) (fun x6_12 => (if x5_7 = x6_12 then bn2 (C_X3_notch Δ 0 (Int32.toNatClampNeg p1) σ_10 2) (fun σ_14 r_15 => bn2 (C_X3_notch Δ 0 (Int32.toNatClampNeg p2) σ_14 2) (fun σ_16 r_17 => (if r_15 = r_17 then (if p2 ≤ p1 then some (σ_16, 0) else some (σ_16, 1)) else bn2 (C_X3_notch Δ 0 (Int32.toNatClampNeg p1) σ_16 2) (fun σ_20 r_21 => bn2 (C_X3_notch Δ 0 (Int32.toNatClampNeg p2) σ_20 2) (fun σ_22 r_23 => (if r_21 ≤ r_23 then some (σ_22, 0) else some (σ_22, 1))))))) else (if x5_7 ≤ x6_12 then some (σ_10, 0) else some (σ_10, 1)))))))))))
theorem m_C_X0_isAhead {l : Launch} {D : va_G} {d : Nat → ClassId} {hs : IX} {Δ : DT} {p1 : Int32} {p2 : Int32} {σ : ST} {z : ST × Int32} (hf : C_X0_isAhead Δ σ p1 p2 = some z) : XM l D d EN yX0_isAhead cX0_isAhead 7 (some .boolean) 1 0 0 [.ref ((hC hs) 0 0 0), .int p1, .int p2] (hC hs) (xct (LC Δ) (okC Δ) (hC hs) d σ) (Qi D (pz z) (cw (hC hs) (LC Δ) (okC Δ) d)) := by
  refine XM.of (by decide +kernel) (Nat.le_of_ble_eq_true rfl) ?_
  intro p e s m below meth c A ls X _ K _ O hl
  have hl : lv_has ls 7 [(0, .ref ((hC hs) 0 0 0)), (1, .int p1), (2, .int p2)] := hl
  have hx := X.1.1; have hb := X.1.2.1
  rw [C_X0_isAhead] at hf
  refine lv_aload_n hx hb dX0_isAhead_0 rfl (lv_at hl 0 rfl) ?_
  refine x_gF X K O 6 rfl LC_0 rfl rfl in_X0 (by decide) q379 dX0_isAhead_1 ?_
  refine x_gFN X K O 0 rfl LC_1 rfl rfl in_X1 (by decide) q295 dX0_isAhead_4 ?_
  refine lv_iload_n hx hb dX0_isAhead_7 rfl (lv_at hl 1 rfl) ?_
  obtain ⟨c_1, hf⟩ := ck_s hf
  refine x_ald X K O 3 rfl LC_5 (by decide) rfl rfl c_1 (j := (Int32.toNatClampNeg p1)) rfl dX0_isAhead_8 ?_
  refine lv_astore_n (lv' := [(3, .ref ((hC hs) 8 0 (Int32.toNatClampNeg p1))), (0, .ref ((hC hs) 0 0 0)), (1, .int p1), (2, .int p2)]) hx hb dX0_isAhead_9 rfl hl (by decide) rfl (fun ls hl => ?_)
  refine lv_aload_n hx hb dX0_isAhead_10 rfl (lv_at hl 1 rfl) ?_
  refine x_gF X K O 6 rfl LC_0 rfl rfl in_X0 (by decide) q379 dX0_isAhead_11 ?_
  refine x_gFN X K O 0 rfl LC_1 rfl rfl in_X1 (by decide) q295 dX0_isAhead_14 ?_
  refine lv_iload_n hx hb dX0_isAhead_17 rfl (lv_at hl 3 rfl) ?_
  obtain ⟨c_2, hf⟩ := ck_s hf
  refine x_ald X K O 3 rfl LC_5 (by decide) rfl rfl c_2 (j := (Int32.toNatClampNeg p2)) rfl dX0_isAhead_18 ?_
  refine lv_astore (lv' := [(4, .ref ((hC hs) 8 0 (Int32.toNatClampNeg p2))), (3, .ref ((hC hs) 8 0 (Int32.toNatClampNeg p1))), (0, .ref ((hC hs) 0 0 0)), (1, .int p1), (2, .int p2)]) hx hb dX0_isAhead_19 hl (by decide) rfl (fun ls hl => ?_)
  refine lv_aload_n hx hb dX0_isAhead_21 rfl (lv_at hl 1 rfl) ?_
  refine lv_iconst (v := 0) hx hb dX0_isAhead_22 (by decide) ?_
  obtain ⟨σ_3, r_4, hg, hf⟩ := bn2_s hf
  refine x_calli (x_runV (As := [.int 0]) (rest := []) X K O (xct_obj (oks_b (B := 1) (b := 0) rfl (okI_lt c_1)) LC_8) rfl (m_C_X3_notch (oks_b (B := 1) (b := 0) rfl (okI_lt c_1)) hg) EN_b EN_h (lw_V q1041 q851 q852 q121 q853) 1 rfl hl.1 (Nat.le_of_ble_eq_true rfl) hdV_X3_notch ⟨by decide, by decide⟩ ⟨Nat.le_refl _, Nat.le_refl _⟩ dX0_isAhead_23) (fun r u H locs hp O _ => ?_)
  cases hp
  have O : XH D A s.heap (hC hs) (xct (LC Δ) (okC Δ) (hC hs) d σ_3) H locs := O
  refine lv_aload_n hx hb dX0_isAhead_26 rfl (lv_at hl 1 rfl) ?_
  refine lv_iconst (v := 1) hx hb dX0_isAhead_27 (by decide) ?_
  obtain ⟨σ_5, r_6, hg, hf⟩ := bn2_s hf
  refine x_calli (x_runV (As := [.int 1]) (rest := [.int r_4]) X K O (xct_obj (oks_b (B := 1) (b := 0) rfl (okI_lt c_1)) LC_8) rfl (m_C_X3_notch (oks_b (B := 1) (b := 0) rfl (okI_lt c_1)) hg) EN_b EN_h (lw_V q1041 q851 q852 q121 q853) 1 rfl hl.1 (Nat.le_of_ble_eq_true rfl) hdV_X3_notch ⟨by decide, by decide⟩ ⟨Nat.le_refl _, Nat.le_refl _⟩ dX0_isAhead_28) (fun r u H locs hp O _ => ?_)
  cases hp
  have O : XH D A s.heap (hC hs) (xct (LC Δ) (okC Δ) (hC hs) d σ_5) H locs := O
  refine lv_isub hx hb dX0_isAhead_31 ?_
  obtain ⟨x5_7, ex5_7, hf⟩ := lt1_s hf
  refine x_top (w := .int x5_7) (by rw [ex5_7]) ?_
  refine lv_istore (lv' := [(5, .int x5_7), (4, .ref ((hC hs) 8 0 (Int32.toNatClampNeg p2))), (3, .ref ((hC hs) 8 0 (Int32.toNatClampNeg p1))), (0, .ref ((hC hs) 0 0 0)), (1, .int p1), (2, .int p2)]) hx hb dX0_isAhead_32 hl (by decide) rfl (fun ls hl => ?_)
  refine lv_aload hx hb dX0_isAhead_34 (lv_at hl 1 rfl) ?_
  refine lv_iconst (v := 0) hx hb dX0_isAhead_36 (by decide) ?_
  obtain ⟨σ_8, r_9, hg, hf⟩ := bn2_s hf
  refine x_calli (x_runV (As := [.int 0]) (rest := []) X K O (xct_obj (oks_b (B := 1) (b := 0) rfl (okI_lt c_2)) LC_8) rfl (m_C_X3_notch (oks_b (B := 1) (b := 0) rfl (okI_lt c_2)) hg) EN_b EN_h (lw_V q1041 q851 q852 q121 q853) 1 rfl hl.1 (Nat.le_of_ble_eq_true rfl) hdV_X3_notch ⟨by decide, by decide⟩ ⟨Nat.le_refl _, Nat.le_refl _⟩ dX0_isAhead_37) (fun r u H locs hp O _ => ?_)
  cases hp
  have O : XH D A s.heap (hC hs) (xct (LC Δ) (okC Δ) (hC hs) d σ_8) H locs := O
  refine lv_aload hx hb dX0_isAhead_40 (lv_at hl 1 rfl) ?_
  refine lv_iconst (v := 1) hx hb dX0_isAhead_42 (by decide) ?_
  obtain ⟨σ_10, r_11, hg, hf⟩ := bn2_s hf
  refine x_calli (x_runV (As := [.int 1]) (rest := [.int r_9]) X K O (xct_obj (oks_b (B := 1) (b := 0) rfl (okI_lt c_2)) LC_8) rfl (m_C_X3_notch (oks_b (B := 1) (b := 0) rfl (okI_lt c_2)) hg) EN_b EN_h (lw_V q1041 q851 q852 q121 q853) 1 rfl hl.1 (Nat.le_of_ble_eq_true rfl) hdV_X3_notch ⟨by decide, by decide⟩ ⟨Nat.le_refl _, Nat.le_refl _⟩ dX0_isAhead_43) (fun r u H locs hp O _ => ?_)
  cases hp
  have O : XH D A s.heap (hC hs) (xct (LC Δ) (okC Δ) (hC hs) d σ_10) H locs := O
  refine lv_isub hx hb dX0_isAhead_46 ?_
  obtain ⟨x6_12, ex6_12, hf⟩ := lt1_s hf
  refine x_top (w := .int x6_12) (by rw [ex6_12]) ?_
  refine lv_istore (lv' := [(6, .int x6_12), (5, .int x5_7), (4, .ref ((hC hs) 8 0 (Int32.toNatClampNeg p2))), (3, .ref ((hC hs) 8 0 (Int32.toNatClampNeg p1))), (0, .ref ((hC hs) 0 0 0)), (1, .int p1), (2, .int p2)]) hx hb dX0_isAhead_47 hl (by decide) rfl (fun ls hl => ?_)
  refine lv_iload hx hb dX0_isAhead_49 (lv_at hl 1 rfl) ?_
  refine lv_iload hx hb dX0_isAhead_51 (lv_at hl 0 rfl) ?_
  refine lv_icmp_eq (tgt := 69) hx hb dX0_isAhead_53 (by decide) (fun c_13 => ?_) (fun c_13 => ?_)
  · replace hf := if_t c_13 hf
    refine lv_aload_n hx hb dX0_isAhead_69 rfl (lv_at hl 3 rfl) ?_
    refine lv_iconst (v := 2) hx hb dX0_isAhead_70 (by decide) ?_
    obtain ⟨σ_14, r_15, hg, hf⟩ := bn2_s hf
    refine x_calli (x_runV (As := [.int 2]) (rest := []) X K O (xct_obj (oks_b (B := 1) (b := 0) rfl (okI_lt c_1)) LC_8) rfl (m_C_X3_notch (oks_b (B := 1) (b := 0) rfl (okI_lt c_1)) hg) EN_b EN_h (lw_V q1041 q851 q852 q121 q853) 1 rfl hl.1 (Nat.le_of_ble_eq_true rfl) hdV_X3_notch ⟨by decide, by decide⟩ ⟨Nat.le_refl _, Nat.le_refl _⟩ dX0_isAhead_71) (fun r u H locs hp O _ => ?_)
    cases hp
    have O : XH D A s.heap (hC hs) (xct (LC Δ) (okC Δ) (hC hs) d σ_14) H locs := O
    refine lv_aload hx hb dX0_isAhead_74 (lv_at hl 2 rfl) ?_
    refine lv_iconst (v := 2) hx hb dX0_isAhead_76 (by decide) ?_
    obtain ⟨σ_16, r_17, hg, hf⟩ := bn2_s hf
    refine x_calli (x_runV (As := [.int 2]) (rest := [.int r_15]) X K O (xct_obj (oks_b (B := 1) (b := 0) rfl (okI_lt c_2)) LC_8) rfl (m_C_X3_notch (oks_b (B := 1) (b := 0) rfl (okI_lt c_2)) hg) EN_b EN_h (lw_V q1041 q851 q852 q121 q853) 1 rfl hl.1 (Nat.le_of_ble_eq_true rfl) hdV_X3_notch ⟨by decide, by decide⟩ ⟨Nat.le_refl _, Nat.le_refl _⟩ dX0_isAhead_77) (fun r u H locs hp O _ => ?_)
    cases hp
    have O : XH D A s.heap (hC hs) (xct (LC Δ) (okC Δ) (hC hs) d σ_16) H locs := O
    refine lv_icmp_eq (tgt := 105) hx hb dX0_isAhead_80 (by decide) (fun c_18 => ?_) (fun c_18 => ?_)
    · replace hf := if_t c_18 hf
      refine lv_iload_n hx hb dX0_isAhead_105 rfl (lv_at hl 5 rfl) ?_
      refine lv_iload_n hx hb dX0_isAhead_106 rfl (lv_at hl 6 rfl) ?_
      refine lv_icmp_ge (tgt := 114) hx hb dX0_isAhead_107 (by decide) (fun c_19 => ?_) (fun c_19 => ?_)
      · replace hf := if_t c_19 hf
        refine lv_iconst (v := 0) hx hb dX0_isAhead_114 (by decide) ?_
        exact x_zret X O rfl rfl _ (Option.some.inj hf).symm rfl dX0_isAhead_115
      · replace hf := if_f c_19 hf
        refine lv_iconst (v := 1) hx hb dX0_isAhead_110 (by decide) ?_
        refine lv_goto (tgt := 115) hx hb dX0_isAhead_111 (by decide) ?_
        exact x_zret X O rfl rfl _ (Option.some.inj hf).symm rfl dX0_isAhead_115
    · replace hf := if_f c_18 hf
      refine lv_aload_n hx hb dX0_isAhead_83 rfl (lv_at hl 3 rfl) ?_
      refine lv_iconst (v := 2) hx hb dX0_isAhead_84 (by decide) ?_
      obtain ⟨σ_20, r_21, hg, hf⟩ := bn2_s hf
      refine x_calli (x_runV (As := [.int 2]) (rest := []) X K O (xct_obj (oks_b (B := 1) (b := 0) rfl (okI_lt c_1)) LC_8) rfl (m_C_X3_notch (oks_b (B := 1) (b := 0) rfl (okI_lt c_1)) hg) EN_b EN_h (lw_V q1041 q851 q852 q121 q853) 1 rfl hl.1 (Nat.le_of_ble_eq_true rfl) hdV_X3_notch ⟨by decide, by decide⟩ ⟨Nat.le_refl _, Nat.le_refl _⟩ dX0_isAhead_85) (fun r u H locs hp O _ => ?_)
      cases hp
      have O : XH D A s.heap (hC hs) (xct (LC Δ) (okC Δ) (hC hs) d σ_20) H locs := O
      refine lv_aload hx hb dX0_isAhead_88 (lv_at hl 2 rfl) ?_
      refine lv_iconst (v := 2) hx hb dX0_isAhead_90 (by decide) ?_
      obtain ⟨σ_22, r_23, hg, hf⟩ := bn2_s hf
      refine x_calli (x_runV (As := [.int 2]) (rest := [.int r_21]) X K O (xct_obj (oks_b (B := 1) (b := 0) rfl (okI_lt c_2)) LC_8) rfl (m_C_X3_notch (oks_b (B := 1) (b := 0) rfl (okI_lt c_2)) hg) EN_b EN_h (lw_V q1041 q851 q852 q121 q853) 1 rfl hl.1 (Nat.le_of_ble_eq_true rfl) hdV_X3_notch ⟨by decide, by decide⟩ ⟨Nat.le_refl _, Nat.le_refl _⟩ dX0_isAhead_91) (fun r u H locs hp O _ => ?_)
      cases hp
      have O : XH D A s.heap (hC hs) (xct (LC Δ) (okC Δ) (hC hs) d σ_22) H locs := O
      refine lv_icmp_le (tgt := 101) hx hb dX0_isAhead_94 (by decide) (fun c_24 => ?_) (fun c_24 => ?_)
      · replace hf := if_t c_24 hf
        refine lv_iconst (v := 0) hx hb dX0_isAhead_101 (by decide) ?_
        refine lv_goto (tgt := 115) hx hb dX0_isAhead_102 (by decide) ?_
        exact x_zret X O rfl rfl _ (Option.some.inj hf).symm rfl dX0_isAhead_115
      · replace hf := if_f c_24 hf
        refine lv_iconst (v := 1) hx hb dX0_isAhead_97 (by decide) ?_
        refine lv_goto (tgt := 115) hx hb dX0_isAhead_98 (by decide) ?_
        exact x_zret X O rfl rfl _ (Option.some.inj hf).symm rfl dX0_isAhead_115
  · replace hf := if_f c_13 hf
    refine lv_iload hx hb dX0_isAhead_56 (lv_at hl 1 rfl) ?_
    refine lv_iload hx hb dX0_isAhead_58 (lv_at hl 0 rfl) ?_
    refine lv_icmp_le (tgt := 67) hx hb dX0_isAhead_60 (by decide) (fun c_25 => ?_) (fun c_25 => ?_)
    · replace hf := if_t c_25 hf
      refine lv_iconst (v := 0) hx hb dX0_isAhead_67 (by decide) ?_
      exact x_zret X O rfl rfl _ (Option.some.inj hf).symm rfl dX0_isAhead_68
    · replace hf := if_f c_25 hf
      refine lv_iconst (v := 1) hx hb dX0_isAhead_63 (by decide) ?_
      refine lv_goto (tgt := 68) hx hb dX0_isAhead_64 (by decide) ?_
      exact x_zret X O rfl rfl _ (Option.some.inj hf).symm rfl dX0_isAhead_68
theorem hdV_X0_isAhead : yX0_isAhead.cls = RX0 ∧ (yX0_isAhead.cls ≠ "java/lang/invoke/MethodHandle" ∧ yX0_isAhead.cls ≠ "java/lang/invoke/VarHandle" ∧ (parseMethodDescriptor yX0_isAhead.desc).map (fun d => d.parameters.length) = some 2) := by decide +kernel
def C_X0_named_b52 (Δ : DT) (kb2 : ST → Int32 → Int32 → Option (ST × Int32)) (kb18 : ST → Int32 → Int32 → Int32 → Int32 → Option (ST × Int32)) (σ : ST) (x1 : Int32) (x2 : Int32) (x4 : Int32) (s0 : Int32) (s1 : Int32) : Option (ST × Int32) :=
  lt1 (s0 + s1) (fun x3_1 => lt1 (x4 + 1) (fun x4_2 => kb18 σ x1 x2 x3_1 x4_2))
theorem w_C_X0_named_b52 {Δ : DT} (X : FX p m c meth s args RX0 cX0_named 5 (some .int)) (K : XK D d A s) {z : ST × Int32} {kb2 : ST → Int32 → Int32 → Option (ST × Int32)} (hkb2 : ∀ (σ : ST) (x1 : Int32) (x2 : Int32) (ls : Array Slot) (H : Heap) (locs : List Loc), XH D A s.heap (hC hs) (xct (LC Δ) (okC Δ) (hC hs) d σ) H locs → lv_has ls 5 [(0, .ref ((hC hs) 0 0 0)), (1, .int x1), (2, .int x2)] → kb2 σ x1 x2 = some z → W p l e (rmD 2 0 0) s m args below meth c H locs 0 0 (MQ below (Qi D (pz z) (cw (hC hs) (LC Δ) (okC Δ) d) A) args s 0 0 A) (F0 m 2 ls [])) {kb18 : ST → Int32 → Int32 → Int32 → Int32 → Option (ST × Int32)} (hkb18 : ∀ (σ : ST) (x1 : Int32) (x2 : Int32) (x3 : Int32) (x4 : Int32) (ls : Array Slot) (H : Heap) (locs : List Loc), XH D A s.heap (hC hs) (xct (LC Δ) (okC Δ) (hC hs) d σ) H locs → lv_has ls 5 [(0, .ref ((hC hs) 0 0 0)), (1, .int x1), (2, .int x2), (3, .int x3), (4, .int x4)] → kb18 σ x1 x2 x3 x4 = some z → W p l e (rmD 2 0 0) s m args below meth c H locs 0 0 (MQ below (Qi D (pz z) (cw (hC hs) (LC Δ) (okC Δ) d) A) args s 0 0 A) (F0 m 18 ls [])) (σ : ST) (x1 : Int32) (x2 : Int32) (x4 : Int32) (s0 : Int32) (s1 : Int32) (ls : Array Slot) (H : Heap) (locs : List Loc) (O : XH D A s.heap (hC hs) (xct (LC Δ) (okC Δ) (hC hs) d σ) H locs) (hl : lv_has ls 5 [(0, .ref ((hC hs) 0 0 0)), (1, .int x1), (2, .int x2), (4, .int x4)]) (hf : C_X0_named_b52 Δ kb2 kb18 σ x1 x2 x4 s0 s1 = some z) : W p l e (rmD 2 0 0) s m args below meth c H locs 0 0 (MQ below (Qi D (pz z) (cw (hC hs) (LC Δ) (okC Δ) d) A) args s 0 0 A) (F0 m 52 ls [.int s1, .int s0]) := by
  have hx := X.1.1; have hb := X.1.2.1
  rw [C_X0_named_b52] at hf
  refine lv_iadd hx hb dX0_named_52 ?_
  obtain ⟨x3_1, ex3_1, hf⟩ := lt1_s hf
  refine x_top (w := .int x3_1) (by rw [ex3_1]) ?_
  refine lv_istore_n (lv' := [(3, .int x3_1), (0, .ref ((hC hs) 0 0 0)), (1, .int x1), (2, .int x2), (4, .int x4)]) hx hb dX0_named_53 rfl hl (by decide) rfl (fun ls hl => ?_)
  obtain ⟨x4_2, ex4_2, hf⟩ := lt1_s hf
  refine lv_iinc (v := x4_2) (lv' := [(4, .int x4_2), (3, .int x3_1), (0, .ref ((hC hs) 0 0 0)), (1, .int x1), (2, .int x2)]) hx hb dX0_named_54 hl (k := 4) rfl (by rw [ex4_2]; rfl) (by decide) rfl (fun ls hl => ?_)
  refine lv_goto (tgt := 18) hx hb dX0_named_57 (by decide) ?_
  exact hkb18 _ _ _ _ _ ls _ _ O (lv_sub hl [2, 3, 4, 1, 0] rfl) hf
def C_X0_named_b51 (Δ : DT) (kb2 : ST → Int32 → Int32 → Option (ST × Int32)) (kb18 : ST → Int32 → Int32 → Int32 → Int32 → Option (ST × Int32)) (σ : ST) (x1 : Int32) (x2 : Int32) (x4 : Int32) (s0 : Int32) : Option (ST × Int32) :=
  C_X0_named_b52 Δ kb2 kb18 σ x1 x2 x4 s0 0
theorem w_C_X0_named_b51 {Δ : DT} (X : FX p m c meth s args RX0 cX0_named 5 (some .int)) (K : XK D d A s) {z : ST × Int32} {kb2 : ST → Int32 → Int32 → Option (ST × Int32)} (hkb2 : ∀ (σ : ST) (x1 : Int32) (x2 : Int32) (ls : Array Slot) (H : Heap) (locs : List Loc), XH D A s.heap (hC hs) (xct (LC Δ) (okC Δ) (hC hs) d σ) H locs → lv_has ls 5 [(0, .ref ((hC hs) 0 0 0)), (1, .int x1), (2, .int x2)] → kb2 σ x1 x2 = some z → W p l e (rmD 2 0 0) s m args below meth c H locs 0 0 (MQ below (Qi D (pz z) (cw (hC hs) (LC Δ) (okC Δ) d) A) args s 0 0 A) (F0 m 2 ls [])) {kb18 : ST → Int32 → Int32 → Int32 → Int32 → Option (ST × Int32)} (hkb18 : ∀ (σ : ST) (x1 : Int32) (x2 : Int32) (x3 : Int32) (x4 : Int32) (ls : Array Slot) (H : Heap) (locs : List Loc), XH D A s.heap (hC hs) (xct (LC Δ) (okC Δ) (hC hs) d σ) H locs → lv_has ls 5 [(0, .ref ((hC hs) 0 0 0)), (1, .int x1), (2, .int x2), (3, .int x3), (4, .int x4)] → kb18 σ x1 x2 x3 x4 = some z → W p l e (rmD 2 0 0) s m args below meth c H locs 0 0 (MQ below (Qi D (pz z) (cw (hC hs) (LC Δ) (okC Δ) d) A) args s 0 0 A) (F0 m 18 ls [])) (σ : ST) (x1 : Int32) (x2 : Int32) (x4 : Int32) (s0 : Int32) (ls : Array Slot) (H : Heap) (locs : List Loc) (O : XH D A s.heap (hC hs) (xct (LC Δ) (okC Δ) (hC hs) d σ) H locs) (hl : lv_has ls 5 [(0, .ref ((hC hs) 0 0 0)), (1, .int x1), (2, .int x2), (4, .int x4)]) (hf : C_X0_named_b51 Δ kb2 kb18 σ x1 x2 x4 s0 = some z) : W p l e (rmD 2 0 0) s m args below meth c H locs 0 0 (MQ below (Qi D (pz z) (cw (hC hs) (LC Δ) (okC Δ) d) A) args s 0 0 A) (F0 m 51 ls [.int s0]) := by
  have hx := X.1.1; have hb := X.1.2.1
  rw [C_X0_named_b51] at hf
  refine lv_iconst (v := 0) hx hb dX0_named_51 (by decide) ?_
  exact w_C_X0_named_b52 X K hkb2 hkb18 _ _ _ _ _ _ ls _ _ O (lv_sub hl [0, 1, 2, 3] rfl) hf
def C_X0_named_b18 (Δ : DT) (kb2 : ST → Int32 → Int32 → Option (ST × Int32)) : Nat → ST → Int32 → Int32 → Int32 → Int32 → Option (ST × Int32)
  | 0, _, _, _, _, _ => none
  | n + 1, σ, x1, x2, x3, x4 =>
    (if (gI σ 1 0 0 5) ≤ x4 then (if x3 = x1 then some (σ, x2) else lt1 (x2 + 1) (fun x2_3 => kb2 σ x1 x2_3)) else (if x4 = x2 then C_X0_named_b51 Δ kb2 (C_X0_named_b18 Δ kb2 n) σ x1 x2 x4 x3 else bn2 (C_X0_isAhead Δ σ x4 x2) (fun σ_5 r_6 => (if r_6 = 0 then C_X0_named_b51 Δ kb2 (C_X0_named_b18 Δ kb2 n) σ_5 x1 x2 x4 x3 else C_X0_named_b52 Δ kb2 (C_X0_named_b18 Δ kb2 n) σ_5 x1 x2 x4 x3 1))))
theorem w_C_X0_named_b18 {Δ : DT} (X : FX p m c meth s args RX0 cX0_named 5 (some .int)) (K : XK D d A s) {z : ST × Int32} {kb2 : ST → Int32 → Int32 → Option (ST × Int32)} (hkb2 : ∀ (σ : ST) (x1 : Int32) (x2 : Int32) (ls : Array Slot) (H : Heap) (locs : List Loc), XH D A s.heap (hC hs) (xct (LC Δ) (okC Δ) (hC hs) d σ) H locs → lv_has ls 5 [(0, .ref ((hC hs) 0 0 0)), (1, .int x1), (2, .int x2)] → kb2 σ x1 x2 = some z → W p l e (rmD 2 0 0) s m args below meth c H locs 0 0 (MQ below (Qi D (pz z) (cw (hC hs) (LC Δ) (okC Δ) d) A) args s 0 0 A) (F0 m 2 ls [])) : ∀ (n : Nat) (σ : ST) (x1 : Int32) (x2 : Int32) (x3 : Int32) (x4 : Int32) (ls : Array Slot) (H : Heap) (locs : List Loc), XH D A s.heap (hC hs) (xct (LC Δ) (okC Δ) (hC hs) d σ) H locs → lv_has ls 5 [(0, .ref ((hC hs) 0 0 0)), (1, .int x1), (2, .int x2), (3, .int x3), (4, .int x4)] → C_X0_named_b18 Δ kb2 n σ x1 x2 x3 x4 = some z → W p l e (rmD 2 0 0) s m args below meth c H locs 0 0 (MQ below (Qi D (pz z) (cw (hC hs) (LC Δ) (okC Δ) d) A) args s 0 0 A) (F0 m 18 ls []) := by
  have hx := X.1.1; have hb := X.1.2.1
  intro n
  induction n with
  | zero =>
    intro σ x1 x2 x3 x4 ls H locs O hl hf
    exact absurd hf (fun q => by cases q)
  | succ n ih =>
    intro σ x1 x2 x3 x4 ls H locs O hl hf
    rw [C_X0_named_b18] at hf
    refine lv_iload hx hb dX0_named_18 (lv_at hl 4 rfl) ?_
    refine lv_aload_n hx hb dX0_named_20 rfl (lv_at hl 0 rfl) ?_
    refine x_gF X K O 6 rfl LC_0 rfl rfl in_X0 (by decide) q379 dX0_named_21 ?_
    refine x_gIN X K O 5 rfl LC_1 rfl rfl in_X1 (by decide) q304 dX0_named_24 ?_
    refine lv_icmp_ge (tgt := 60) hx hb dX0_named_27 (by decide) (fun c_1 => ?_) (fun c_1 => ?_)
    · replace hf := if_t c_1 hf
      refine lv_iload_n hx hb dX0_named_60 rfl (lv_at hl 3 rfl) ?_
      refine lv_iload_n hx hb dX0_named_61 rfl (lv_at hl 1 rfl) ?_
      refine lv_icmp_ne (tgt := 67) hx hb dX0_named_62 (by decide) (fun c_2 => ?_) (fun c_2 => ?_)
      · replace hf := if_f c_2 hf
        obtain ⟨x2_3, ex2_3, hf⟩ := lt1_s hf
        refine lv_iinc (v := x2_3) (lv' := [(2, .int x2_3), (0, .ref ((hC hs) 0 0 0)), (1, .int x1), (3, .int x3), (4, .int x4)]) hx hb dX0_named_67 hl (k := 2) rfl (by rw [ex2_3]; rfl) (by decide) rfl (fun ls hl => ?_)
        refine lv_goto (tgt := 2) hx hb dX0_named_70 (by decide) ?_
        exact hkb2 _ _ _ ls _ _ O (lv_sub hl [1, 2, 0] rfl) hf
      · replace hf := if_t c_2 hf
        refine lv_iload_n hx hb dX0_named_65 rfl (lv_at hl 2 rfl) ?_
        exact x_iret X O rfl _ (Option.some.inj hf).symm rfl dX0_named_66
    · replace hf := if_f c_1 hf
      refine lv_iload_n hx hb dX0_named_30 rfl (lv_at hl 3 rfl) ?_
      refine lv_iload hx hb dX0_named_31 (lv_at hl 4 rfl) ?_
      refine lv_iload_n hx hb dX0_named_33 rfl (lv_at hl 2 rfl) ?_
      refine lv_icmp_eq (tgt := 51) hx hb dX0_named_34 (by decide) (fun c_4 => ?_) (fun c_4 => ?_)
      · replace hf := if_t c_4 hf
        exact w_C_X0_named_b51 X K hkb2 ih _ _ _ _ _ ls _ _ O (lv_sub hl [0, 1, 2, 4] rfl) hf
      · replace hf := if_f c_4 hf
        refine lv_aload_n hx hb dX0_named_37 rfl (lv_at hl 0 rfl) ?_
        refine lv_iload hx hb dX0_named_38 (lv_at hl 4 rfl) ?_
        refine lv_iload_n hx hb dX0_named_40 rfl (lv_at hl 2 rfl) ?_
        obtain ⟨σ_5, r_6, hg, hf⟩ := bn2_s hf
        refine x_calli (x_runV (As := [.int x4, .int x2]) (rest := [.int x3]) X K O (xct_obj rfl LC_0) rfl (m_C_X0_isAhead hg) EN_b EN_h (lw_V q1054 q1056 qs42 q111 q1057) 2 rfl hl.1 (Nat.le_of_ble_eq_true rfl) hdV_X0_isAhead ⟨by decide, by decide⟩ ⟨Nat.le_refl _, Nat.le_refl _⟩ dX0_named_41) (fun r u H locs hp O _ => ?_)
        cases hp
        have O : XH D A s.heap (hC hs) (xct (LC Δ) (okC Δ) (hC hs) d σ_5) H locs := O
        refine lv_if_eq (tgt := 51) hx hb dX0_named_44 (by decide) (fun c_7 => ?_) (fun c_7 => ?_)
        · replace hf := if_t c_7 hf
          exact w_C_X0_named_b51 X K hkb2 ih _ _ _ _ _ ls _ _ O (lv_sub hl [0, 1, 2, 4] rfl) hf
        · replace hf := if_f c_7 hf
          refine lv_iconst (v := 1) hx hb dX0_named_47 (by decide) ?_
          refine lv_goto (tgt := 52) hx hb dX0_named_48 (by decide) ?_
          exact w_C_X0_named_b52 X K hkb2 ih _ _ _ _ _ _ ls _ _ O (lv_sub hl [0, 1, 2, 4] rfl) hf
def C_X0_named_b2 (Δ : DT) : Nat → ST → Int32 → Int32 → Option (ST × Int32)
  | 0, _, _, _ => none
  | n + 1, σ, x1, x2 =>
    (if (gI σ 1 0 0 5) ≤ x2 then some (σ, (-1)) else C_X0_named_b18 Δ (C_X0_named_b2 Δ n) FUEL σ x1 x2 0 0)
theorem w_C_X0_named_b2 {Δ : DT} (X : FX p m c meth s args RX0 cX0_named 5 (some .int)) (K : XK D d A s) {z : ST × Int32} : ∀ (n : Nat) (σ : ST) (x1 : Int32) (x2 : Int32) (ls : Array Slot) (H : Heap) (locs : List Loc), XH D A s.heap (hC hs) (xct (LC Δ) (okC Δ) (hC hs) d σ) H locs → lv_has ls 5 [(0, .ref ((hC hs) 0 0 0)), (1, .int x1), (2, .int x2)] → C_X0_named_b2 Δ n σ x1 x2 = some z → W p l e (rmD 2 0 0) s m args below meth c H locs 0 0 (MQ below (Qi D (pz z) (cw (hC hs) (LC Δ) (okC Δ) d) A) args s 0 0 A) (F0 m 2 ls []) := by
  have hx := X.1.1; have hb := X.1.2.1
  intro n
  induction n with
  | zero =>
    intro σ x1 x2 ls H locs O hl hf
    exact absurd hf (fun q => by cases q)
  | succ n ih =>
    intro σ x1 x2 ls H locs O hl hf
    rw [C_X0_named_b2] at hf
    refine lv_iload_n hx hb dX0_named_2 rfl (lv_at hl 2 rfl) ?_
    refine lv_aload_n hx hb dX0_named_3 rfl (lv_at hl 0 rfl) ?_
    refine x_gF X K O 6 rfl LC_0 rfl rfl in_X0 (by decide) q379 dX0_named_4 ?_
    refine x_gIN X K O 5 rfl LC_1 rfl rfl in_X1 (by decide) q304 dX0_named_7 ?_
    refine lv_icmp_ge (tgt := 73) hx hb dX0_named_10 (by decide) (fun c_1 => ?_) (fun c_1 => ?_)
    · replace hf := if_t c_1 hf
      refine lv_iconst (v := (-1)) hx hb dX0_named_73 (by decide) ?_
      exact x_iret X O rfl _ (Option.some.inj hf).symm rfl dX0_named_74
    · replace hf := if_f c_1 hf
      refine lv_iconst (v := 0) hx hb dX0_named_13 (by decide) ?_
      refine lv_istore_n (lv' := [(3, .int 0), (0, .ref ((hC hs) 0 0 0)), (1, .int x1), (2, .int x2)]) hx hb dX0_named_14 rfl hl (by decide) rfl (fun ls hl => ?_)
      refine lv_iconst (v := 0) hx hb dX0_named_15 (by decide) ?_
      refine lv_istore (lv' := [(4, .int 0), (3, .int 0), (0, .ref ((hC hs) 0 0 0)), (1, .int x1), (2, .int x2)]) hx hb dX0_named_16 hl (by decide) rfl (fun ls hl => ?_)
      exact w_C_X0_named_b18 X K ih _ _ _ _ _ _ ls _ _ O (lv_sub hl [2, 3, 4, 1, 0] rfl) hf
def C_X0_named (Δ : DT) (σ : ST) (p1 : Int32) : Option (ST × Int32) :=
  C_X0_named_b2 Δ FUEL σ p1 0
theorem m_C_X0_named {l : Launch} {D : va_G} {d : Nat → ClassId} {hs : IX} {Δ : DT} {p1 : Int32} {σ : ST} {z : ST × Int32} (hf : C_X0_named Δ σ p1 = some z) : XM l D d EN yX0_named cX0_named 5 (some .int) 2 0 0 [.ref ((hC hs) 0 0 0), .int p1] (hC hs) (xct (LC Δ) (okC Δ) (hC hs) d σ) (Qi D (pz z) (cw (hC hs) (LC Δ) (okC Δ) d)) := by
  refine XM.of (by decide +kernel) (Nat.le_of_ble_eq_true rfl) ?_
  intro p e s m below meth c A ls X _ K _ O hl
  have hl : lv_has ls 5 [(0, .ref ((hC hs) 0 0 0)), (1, .int p1)] := hl
  have hx := X.1.1; have hb := X.1.2.1
  rw [C_X0_named] at hf
  refine lv_iconst (v := 0) hx hb dX0_named_0 (by decide) ?_
  refine lv_istore_n (lv' := [(2, .int 0), (0, .ref ((hC hs) 0 0 0)), (1, .int p1)]) hx hb dX0_named_1 rfl hl (by decide) rfl (fun ls hl => ?_)
  exact w_C_X0_named_b2 X K _ _ _ _ ls _ _ O (lv_sub hl [1, 2, 0] rfl) hf
def C_X0_annals_b151 (Δ : DT) (kb27 : ST → Int32 → Int32 → Int32 → Int32 → Option (ST × Int32)) (σ : ST) (x1 : Int32) (x2 : Int32) (x3 : Int32) (x4 : Int32) : Option (ST × Int32) :=
  lt1 (x4 + 1) (fun x4_1 => kb27 σ x1 x2 x3 x4_1)
theorem w_C_X0_annals_b151 {Δ : DT} (X : FX p m c meth s args RX0 cX0_annals 8 (some .int)) (K : XK D d A s) {z : ST × Int32} {kb27 : ST → Int32 → Int32 → Int32 → Int32 → Option (ST × Int32)} (hkb27 : ∀ (σ : ST) (x1 : Int32) (x2 : Int32) (x3 : Int32) (x4 : Int32) (ls : Array Slot) (H : Heap) (locs : List Loc), XH D A s.heap (hC hs) (xct (LC Δ) (okC Δ) (hC hs) d σ) H locs → lv_has ls 8 [(0, .ref ((hC hs) 0 0 0)), (1, .int x1), (2, .int x2), (3, .int x3), (4, .int x4)] → kb27 σ x1 x2 x3 x4 = some z → W p l e (rmD 1 0 0) s m args below meth c H locs 0 0 (MQ below (Qi D (pz z) (cw (hC hs) (LC Δ) (okC Δ) d) A) args s 0 0 A) (F0 m 27 ls [])) (σ : ST) (x1 : Int32) (x2 : Int32) (x3 : Int32) (x4 : Int32) (ls : Array Slot) (H : Heap) (locs : List Loc) (O : XH D A s.heap (hC hs) (xct (LC Δ) (okC Δ) (hC hs) d σ) H locs) (hl : lv_has ls 8 [(0, .ref ((hC hs) 0 0 0)), (1, .int x1), (2, .int x2), (3, .int x3), (4, .int x4)]) (hf : C_X0_annals_b151 Δ kb27 σ x1 x2 x3 x4 = some z) : W p l e (rmD 1 0 0) s m args below meth c H locs 0 0 (MQ below (Qi D (pz z) (cw (hC hs) (LC Δ) (okC Δ) d) A) args s 0 0 A) (F0 m 151 ls []) := by
  have hx := X.1.1; have hb := X.1.2.1
  rw [C_X0_annals_b151] at hf
  obtain ⟨x4_1, ex4_1, hf⟩ := lt1_s hf
  refine lv_iinc (v := x4_1) (lv' := [(4, .int x4_1), (0, .ref ((hC hs) 0 0 0)), (1, .int x1), (2, .int x2), (3, .int x3)]) hx hb dX0_annals_151 hl (k := 4) rfl (by rw [ex4_1]; rfl) (by decide) rfl (fun ls hl => ?_)
  refine lv_goto (tgt := 27) hx hb dX0_annals_154 (by decide) ?_
  exact hkb27 _ _ _ _ _ ls _ _ O (lv_sub hl [1, 2, 3, 4, 0] rfl) hf
def C_X0_annals_b150 (Δ : DT) (kb27 : ST → Int32 → Int32 → Int32 → Int32 → Option (ST × Int32)) (σ : ST) (x1 : Int32) (x2 : Int32) (x4 : Int32) (s0 : Int32) : Option (ST × Int32) :=
  C_X0_annals_b151 Δ kb27 σ x1 x2 s0 x4
theorem w_C_X0_annals_b150 {Δ : DT} (X : FX p m c meth s args RX0 cX0_annals 8 (some .int)) (K : XK D d A s) {z : ST × Int32} {kb27 : ST → Int32 → Int32 → Int32 → Int32 → Option (ST × Int32)} (hkb27 : ∀ (σ : ST) (x1 : Int32) (x2 : Int32) (x3 : Int32) (x4 : Int32) (ls : Array Slot) (H : Heap) (locs : List Loc), XH D A s.heap (hC hs) (xct (LC Δ) (okC Δ) (hC hs) d σ) H locs → lv_has ls 8 [(0, .ref ((hC hs) 0 0 0)), (1, .int x1), (2, .int x2), (3, .int x3), (4, .int x4)] → kb27 σ x1 x2 x3 x4 = some z → W p l e (rmD 1 0 0) s m args below meth c H locs 0 0 (MQ below (Qi D (pz z) (cw (hC hs) (LC Δ) (okC Δ) d) A) args s 0 0 A) (F0 m 27 ls [])) (σ : ST) (x1 : Int32) (x2 : Int32) (x4 : Int32) (s0 : Int32) (ls : Array Slot) (H : Heap) (locs : List Loc) (O : XH D A s.heap (hC hs) (xct (LC Δ) (okC Δ) (hC hs) d σ) H locs) (hl : lv_has ls 8 [(0, .ref ((hC hs) 0 0 0)), (1, .int x1), (2, .int x2), (4, .int x4)]) (hf : C_X0_annals_b150 Δ kb27 σ x1 x2 x4 s0 = some z) : W p l e (rmD 1 0 0) s m args below meth c H locs 0 0 (MQ below (Qi D (pz z) (cw (hC hs) (LC Δ) (okC Δ) d) A) args s 0 0 A) (F0 m 150 ls [.int s0]) := by
  have hx := X.1.1; have hb := X.1.2.1
  rw [C_X0_annals_b150] at hf
  refine lv_istore_n (lv' := [(3, .int s0), (0, .ref ((hC hs) 0 0 0)), (1, .int x1), (2, .int x2), (4, .int x4)]) hx hb dX0_annals_150 rfl hl (by decide) rfl (fun ls hl => ?_)
  exact w_C_X0_annals_b151 X K hkb27 _ _ _ _ _ ls _ _ O (lv_sub hl [1, 2, 3, 0, 4] rfl) hf
def C_X0_annals_b149 (Δ : DT) (kb27 : ST → Int32 → Int32 → Int32 → Int32 → Option (ST × Int32)) (σ : ST) (x1 : Int32) (x2 : Int32) (x4 : Int32) (s0 : Int32) (s1 : Int32) : Option (ST × Int32) :=
  C_X0_annals_b150 Δ kb27 σ x1 x2 x4 (s0 + s1)
theorem w_C_X0_annals_b149 {Δ : DT} (X : FX p m c meth s args RX0 cX0_annals 8 (some .int)) (K : XK D d A s) {z : ST × Int32} {kb27 : ST → Int32 → Int32 → Int32 → Int32 → Option (ST × Int32)} (hkb27 : ∀ (σ : ST) (x1 : Int32) (x2 : Int32) (x3 : Int32) (x4 : Int32) (ls : Array Slot) (H : Heap) (locs : List Loc), XH D A s.heap (hC hs) (xct (LC Δ) (okC Δ) (hC hs) d σ) H locs → lv_has ls 8 [(0, .ref ((hC hs) 0 0 0)), (1, .int x1), (2, .int x2), (3, .int x3), (4, .int x4)] → kb27 σ x1 x2 x3 x4 = some z → W p l e (rmD 1 0 0) s m args below meth c H locs 0 0 (MQ below (Qi D (pz z) (cw (hC hs) (LC Δ) (okC Δ) d) A) args s 0 0 A) (F0 m 27 ls [])) (σ : ST) (x1 : Int32) (x2 : Int32) (x4 : Int32) (s0 : Int32) (s1 : Int32) (ls : Array Slot) (H : Heap) (locs : List Loc) (O : XH D A s.heap (hC hs) (xct (LC Δ) (okC Δ) (hC hs) d σ) H locs) (hl : lv_has ls 8 [(0, .ref ((hC hs) 0 0 0)), (1, .int x1), (2, .int x2), (4, .int x4)]) (hf : C_X0_annals_b149 Δ kb27 σ x1 x2 x4 s0 s1 = some z) : W p l e (rmD 1 0 0) s m args below meth c H locs 0 0 (MQ below (Qi D (pz z) (cw (hC hs) (LC Δ) (okC Δ) d) A) args s 0 0 A) (F0 m 149 ls [.int s1, .int s0]) := by
  have hx := X.1.1; have hb := X.1.2.1
  rw [C_X0_annals_b149] at hf
  refine lv_iadd hx hb dX0_annals_149 ?_
  exact w_C_X0_annals_b150 X K hkb27 _ _ _ _ _ ls _ _ O (lv_sub hl [0, 1, 2, 3] rfl) hf
def C_X0_annals_b102 (Δ : DT) (kb27 : ST → Int32 → Int32 → Int32 → Int32 → Option (ST × Int32)) (σ : ST) (x1 : Int32) (x2 : Int32) (x3 : Int32) (x4 : Int32) (x6 : Int32) (s0 : Int32) (s1 : Int32) : Option (ST × Int32) :=
  lt1 (s0 + s1) (fun x7_1 => (if x2 = 3 then (if x7_1 ≤ 0 then C_X0_annals_b150 Δ kb27 σ x1 x2 x4 x3 else C_X0_annals_b150 Δ kb27 σ x1 x2 x4 (imax x3 x6)) else (if x2 = 0 then C_X0_annals_b149 Δ kb27 σ x1 x2 x4 x3 1 else (if x2 = 1 then C_X0_annals_b149 Δ kb27 σ x1 x2 x4 x3 x6 else C_X0_annals_b149 Δ kb27 σ x1 x2 x4 x3 x7_1))))
theorem w_C_X0_annals_b102 {Δ : DT} (X : FX p m c meth s args RX0 cX0_annals 8 (some .int)) (K : XK D d A s) {z : ST × Int32} {kb27 : ST → Int32 → Int32 → Int32 → Int32 → Option (ST × Int32)} (hkb27 : ∀ (σ : ST) (x1 : Int32) (x2 : Int32) (x3 : Int32) (x4 : Int32) (ls : Array Slot) (H : Heap) (locs : List Loc), XH D A s.heap (hC hs) (xct (LC Δ) (okC Δ) (hC hs) d σ) H locs → lv_has ls 8 [(0, .ref ((hC hs) 0 0 0)), (1, .int x1), (2, .int x2), (3, .int x3), (4, .int x4)] → kb27 σ x1 x2 x3 x4 = some z → W p l e (rmD 1 0 0) s m args below meth c H locs 0 0 (MQ below (Qi D (pz z) (cw (hC hs) (LC Δ) (okC Δ) d) A) args s 0 0 A) (F0 m 27 ls [])) (σ : ST) (x1 : Int32) (x2 : Int32) (x3 : Int32) (x4 : Int32) (x6 : Int32) (s0 : Int32) (s1 : Int32) (ls : Array Slot) (H : Heap) (locs : List Loc) (O : XH D A s.heap (hC hs) (xct (LC Δ) (okC Δ) (hC hs) d σ) H locs) (hl : lv_has ls 8 [(0, .ref ((hC hs) 0 0 0)), (1, .int x1), (2, .int x2), (3, .int x3), (4, .int x4), (6, .int x6)]) (hf : C_X0_annals_b102 Δ kb27 σ x1 x2 x3 x4 x6 s0 s1 = some z) : W p l e (rmD 1 0 0) s m args below meth c H locs 0 0 (MQ below (Qi D (pz z) (cw (hC hs) (LC Δ) (okC Δ) d) A) args s 0 0 A) (F0 m 102 ls [.int s1, .int s0]) := by
  have hx := X.1.1; have hb := X.1.2.1
  rw [C_X0_annals_b102] at hf
  refine lv_iadd hx hb dX0_annals_102 ?_
  obtain ⟨x7_1, ex7_1, hf⟩ := lt1_s hf
  refine x_top (w := .int x7_1) (by rw [ex7_1]) ?_
  refine lv_istore (lv' := [(7, .int x7_1), (0, .ref ((hC hs) 0 0 0)), (1, .int x1), (2, .int x2), (3, .int x3), (4, .int x4), (6, .int x6)]) hx hb dX0_annals_103 hl (by decide) rfl (fun ls hl => ?_)
  refine lv_iload_n hx hb dX0_annals_105 rfl (lv_at hl 3 rfl) ?_
  refine lv_iconst (v := 3) hx hb dX0_annals_106 (by decide) ?_
  refine lv_icmp_ne (tgt := 128) hx hb dX0_annals_107 (by decide) (fun c_2 => ?_) (fun c_2 => ?_)
  · replace hf := if_f c_2 hf
    refine lv_iload_n hx hb dX0_annals_128 rfl (lv_at hl 4 rfl) ?_
    refine lv_iload_n hx hb dX0_annals_129 rfl (lv_at hl 3 rfl) ?_
    refine lv_if_ne (tgt := 137) hx hb dX0_annals_130 (by decide) (fun c_3 => ?_) (fun c_3 => ?_)
    · replace hf := if_f c_3 hf
      refine lv_iload_n hx hb dX0_annals_137 rfl (lv_at hl 3 rfl) ?_
      refine lv_iconst (v := 1) hx hb dX0_annals_138 (by decide) ?_
      refine lv_icmp_ne (tgt := 147) hx hb dX0_annals_139 (by decide) (fun c_4 => ?_) (fun c_4 => ?_)
      · replace hf := if_f c_4 hf
        refine lv_iload hx hb dX0_annals_147 (lv_at hl 0 rfl) ?_
        exact w_C_X0_annals_b149 X K hkb27 _ _ _ _ _ _ ls _ _ O (lv_sub hl [1, 2, 3, 5] rfl) hf
      · replace hf := if_t c_4 hf
        refine lv_iload hx hb dX0_annals_142 (lv_at hl 6 rfl) ?_
        refine lv_goto (tgt := 149) hx hb dX0_annals_144 (by decide) ?_
        exact w_C_X0_annals_b149 X K hkb27 _ _ _ _ _ _ ls _ _ O (lv_sub hl [1, 2, 3, 5] rfl) hf
    · replace hf := if_t c_3 hf
      refine lv_iconst (v := 1) hx hb dX0_annals_133 (by decide) ?_
      refine lv_goto (tgt := 149) hx hb dX0_annals_134 (by decide) ?_
      exact w_C_X0_annals_b149 X K hkb27 _ _ _ _ _ _ ls _ _ O (lv_sub hl [1, 2, 3, 5] rfl) hf
  · replace hf := if_t c_2 hf
    refine lv_iload hx hb dX0_annals_110 (lv_at hl 0 rfl) ?_
    refine lv_if_le (tgt := 124) hx hb dX0_annals_112 (by decide) (fun c_5 => ?_) (fun c_5 => ?_)
    · replace hf := if_t c_5 hf
      refine lv_iload_n hx hb dX0_annals_124 rfl (lv_at hl 4 rfl) ?_
      refine lv_goto (tgt := 150) hx hb dX0_annals_125 (by decide) ?_
      exact w_C_X0_annals_b150 X K hkb27 _ _ _ _ _ ls _ _ O (lv_sub hl [1, 2, 3, 5] rfl) hf
    · replace hf := if_f c_5 hf
      refine lv_iload_n hx hb dX0_annals_115 rfl (lv_at hl 4 rfl) ?_
      refine lv_iload hx hb dX0_annals_116 (lv_at hl 6 rfl) ?_
      refine va_mmax hx hb (X.1.2.2.1.trans hl.1.symm) X.1.2.2.2.1 (X.1.2.2.2.2 _ q1066) (X.1.2.2.2.2 _ q195) (X.1.2.2.2.2 _ q116) (X.1.2.2.2.2 _ q196) (by decide) (Nat.le_of_ble_eq_true rfl) (Nat.le_refl _) (Nat.le_refl _) dX0_annals_118 ?_
      refine x_top (w := .int (imax x3 x6)) rfl ?_
      refine lv_goto (tgt := 150) hx hb dX0_annals_121 (by decide) ?_
      exact w_C_X0_annals_b150 X K hkb27 _ _ _ _ _ ls _ _ O (lv_sub hl [1, 2, 3, 5] rfl) hf
def C_X0_annals_b88 (Δ : DT) (kb27 : ST → Int32 → Int32 → Int32 → Int32 → Option (ST × Int32)) (σ : ST) (x1 : Int32) (x2 : Int32) (x3 : Int32) (x4 : Int32) (x5b : Nat) (x6 : Int32) (s0 : Int32) : Option (ST × Int32) :=
  bn2 (C_X4_did Δ 0 x5b σ 1) (fun σ_1 r_2 => (if r_2 ≤ 0 then C_X0_annals_b102 Δ kb27 σ_1 x1 x2 x3 x4 x6 s0 0 else C_X0_annals_b102 Δ kb27 σ_1 x1 x2 x3 x4 x6 s0 1))
theorem w_C_X0_annals_b88 {Δ : DT} (X : FX p m c meth s args RX0 cX0_annals 8 (some .int)) (K : XK D d A s) {z : ST × Int32} {kb27 : ST → Int32 → Int32 → Int32 → Int32 → Option (ST × Int32)} (hkb27 : ∀ (σ : ST) (x1 : Int32) (x2 : Int32) (x3 : Int32) (x4 : Int32) (ls : Array Slot) (H : Heap) (locs : List Loc), XH D A s.heap (hC hs) (xct (LC Δ) (okC Δ) (hC hs) d σ) H locs → lv_has ls 8 [(0, .ref ((hC hs) 0 0 0)), (1, .int x1), (2, .int x2), (3, .int x3), (4, .int x4)] → kb27 σ x1 x2 x3 x4 = some z → W p l e (rmD 1 0 0) s m args below meth c H locs 0 0 (MQ below (Qi D (pz z) (cw (hC hs) (LC Δ) (okC Δ) d) A) args s 0 0 A) (F0 m 27 ls [])) (σ : ST) (x1 : Int32) (x2 : Int32) (x3 : Int32) (x4 : Int32) (x5b : Nat) (x6 : Int32) (s0 : Int32) (kx5 : (okC Δ) 10 0 x5b = true) (ls : Array Slot) (H : Heap) (locs : List Loc) (O : XH D A s.heap (hC hs) (xct (LC Δ) (okC Δ) (hC hs) d σ) H locs) (hl : lv_has ls 8 [(0, .ref ((hC hs) 0 0 0)), (1, .int x1), (2, .int x2), (3, .int x3), (4, .int x4), (5, .ref ((hC hs) 10 0 x5b)), (6, .int x6)]) (hf : C_X0_annals_b88 Δ kb27 σ x1 x2 x3 x4 x5b x6 s0 = some z) : W p l e (rmD 1 0 0) s m args below meth c H locs 0 0 (MQ below (Qi D (pz z) (cw (hC hs) (LC Δ) (okC Δ) d) A) args s 0 0 A) (F0 m 88 ls [.int s0]) := by
  have hx := X.1.1; have hb := X.1.2.1
  rw [C_X0_annals_b88] at hf
  refine lv_aload hx hb dX0_annals_88 (lv_at hl 5 rfl) ?_
  refine lv_iconst (v := 1) hx hb dX0_annals_90 (by decide) ?_
  obtain ⟨σ_1, r_2, hg, hf⟩ := bn2_s hf
  refine x_calli (x_runV (As := [.int 1]) (rest := [.int s0]) X K O (xct_obj kx5 LC_10) rfl (m_C_X4_did kx5 hg) EN_b EN_h (lw_V q1062 q1063 q1064 q122 q1065) 1 rfl hl.1 (Nat.le_of_ble_eq_true rfl) hdV_X4_did ⟨by decide, by decide⟩ ⟨Nat.le_refl _, Nat.le_refl _⟩ dX0_annals_91) (fun r u H locs hp O _ => ?_)
  cases hp
  have O : XH D A s.heap (hC hs) (xct (LC Δ) (okC Δ) (hC hs) d σ_1) H locs := O
  refine lv_if_le (tgt := 101) hx hb dX0_annals_94 (by decide) (fun c_3 => ?_) (fun c_3 => ?_)
  · replace hf := if_t c_3 hf
    refine lv_iconst (v := 0) hx hb dX0_annals_101 (by decide) ?_
    exact w_C_X0_annals_b102 X K hkb27 _ _ _ _ _ _ _ _ ls _ _ O (lv_sub hl [0, 1, 2, 3, 4, 6] rfl) hf
  · replace hf := if_f c_3 hf
    refine lv_iconst (v := 1) hx hb dX0_annals_97 (by decide) ?_
    refine lv_goto (tgt := 102) hx hb dX0_annals_98 (by decide) ?_
    exact w_C_X0_annals_b102 X K hkb27 _ _ _ _ _ _ _ _ ls _ _ O (lv_sub hl [0, 1, 2, 3, 4, 6] rfl) hf
def C_X0_annals_b27 (Δ : DT) : Nat → ST → Int32 → Int32 → Int32 → Int32 → Option (ST × Int32)
  | 0, _, _, _, _, _ => none
  | n + 1, σ, x1, x2, x3, x4 =>
    (if (gI σ 1 0 0 6) ≤ x4 then some (σ, x3) else ck (okI x4 300) ((if (gI σ 11 0 (Int32.toNatClampNeg x4) 0) = x1 then lt1 (gI σ 11 0 (Int32.toNatClampNeg x4) 3) (fun x6_4 => bn2 (C_X4_did Δ 0 (Int32.toNatClampNeg x4) σ 0) (fun σ_5 r_6 => (if r_6 ≤ 0 then C_X0_annals_b88 Δ (C_X0_annals_b27 Δ n) σ_5 x1 x2 x3 x4 (Int32.toNatClampNeg x4) x6_4 0 else C_X0_annals_b88 Δ (C_X0_annals_b27 Δ n) σ_5 x1 x2 x3 x4 (Int32.toNatClampNeg x4) x6_4 1))) else C_X0_annals_b151 Δ (C_X0_annals_b27 Δ n) σ x1 x2 x3 x4)))
theorem w_C_X0_annals_b27 {Δ : DT} (X : FX p m c meth s args RX0 cX0_annals 8 (some .int)) (K : XK D d A s) {z : ST × Int32} : ∀ (n : Nat) (σ : ST) (x1 : Int32) (x2 : Int32) (x3 : Int32) (x4 : Int32) (ls : Array Slot) (H : Heap) (locs : List Loc), XH D A s.heap (hC hs) (xct (LC Δ) (okC Δ) (hC hs) d σ) H locs → lv_has ls 8 [(0, .ref ((hC hs) 0 0 0)), (1, .int x1), (2, .int x2), (3, .int x3), (4, .int x4)] → C_X0_annals_b27 Δ n σ x1 x2 x3 x4 = some z → W p l e (rmD 1 0 0) s m args below meth c H locs 0 0 (MQ below (Qi D (pz z) (cw (hC hs) (LC Δ) (okC Δ) d) A) args s 0 0 A) (F0 m 27 ls []) := by
  have hx := X.1.1; have hb := X.1.2.1
  intro n
  induction n with
  | zero =>
    intro σ x1 x2 x3 x4 ls H locs O hl hf
    exact absurd hf (fun q => by cases q)
  | succ n ih =>
    intro σ x1 x2 x3 x4 ls H locs O hl hf
    rw [C_X0_annals_b27] at hf
    refine lv_iload hx hb dX0_annals_27 (lv_at hl 4 rfl) ?_
    refine lv_aload_n hx hb dX0_annals_29 rfl (lv_at hl 0 rfl) ?_
    refine x_gF X K O 6 rfl LC_0 rfl rfl in_X0 (by decide) q379 dX0_annals_30 ?_
    refine x_gIN X K O 6 rfl LC_1 rfl rfl in_X1 (by decide) q306 dX0_annals_33 ?_
    refine lv_icmp_ge (tgt := 157) hx hb dX0_annals_36 (by decide) (fun c_1 => ?_) (fun c_1 => ?_)
    · replace hf := if_t c_1 hf
      refine lv_iload_n hx hb dX0_annals_157 rfl (lv_at hl 3 rfl) ?_
      exact x_iret X O rfl _ (Option.some.inj hf).symm rfl dX0_annals_158
    · replace hf := if_f c_1 hf
      refine lv_aload_n hx hb dX0_annals_39 rfl (lv_at hl 0 rfl) ?_
      refine x_gF X K O 6 rfl LC_0 rfl rfl in_X0 (by decide) q379 dX0_annals_40 ?_
      refine x_gFN X K O 1 rfl LC_1 rfl rfl in_X1 (by decide) q297 dX0_annals_43 ?_
      refine lv_iload hx hb dX0_annals_46 (lv_at hl 4 rfl) ?_
      obtain ⟨c_2, hf⟩ := ck_s hf
      refine x_ald X K O 4 rfl LC_6 (by decide) rfl rfl c_2 (j := (Int32.toNatClampNeg x4)) rfl dX0_annals_48 ?_
      refine lv_astore (lv' := [(5, .ref ((hC hs) 10 0 (Int32.toNatClampNeg x4))), (0, .ref ((hC hs) 0 0 0)), (1, .int x1), (2, .int x2), (3, .int x3), (4, .int x4)]) hx hb dX0_annals_49 hl (by decide) rfl (fun ls hl => ?_)
      refine lv_aload hx hb dX0_annals_51 (lv_at hl 0 rfl) ?_
      refine x_gFN X K O 0 (oks_b (B := 1) (b := 0) rfl (okI_lt c_2)) LC_10 rfl rfl in_X4 (by decide) q289 dX0_annals_53 ?_
      refine lv_iconst (v := 0) hx hb dX0_annals_56 (by decide) ?_
      refine x_ild X K O (oks_b (B := 1) (b := 0) rfl (okI_lt c_2)) LC_11 (by decide) (j := 0) rfl dX0_annals_57 ?_
      refine lv_iload_n hx hb dX0_annals_58 rfl (lv_at hl 2 rfl) ?_
      refine lv_icmp_eq (tgt := 65) hx hb dX0_annals_59 (by decide) (fun c_3 => ?_) (fun c_3 => ?_)
      · replace hf := if_t c_3 hf
        refine lv_aload hx hb dX0_annals_65 (lv_at hl 0 rfl) ?_
        refine x_gFN X K O 0 (oks_b (B := 1) (b := 0) rfl (okI_lt c_2)) LC_10 rfl rfl in_X4 (by decide) q289 dX0_annals_67 ?_
        refine lv_iconst (v := 3) hx hb dX0_annals_70 (by decide) ?_
        refine x_ild X K O (oks_b (B := 1) (b := 0) rfl (okI_lt c_2)) LC_11 (by decide) (j := 3) rfl dX0_annals_71 ?_
        obtain ⟨x6_4, ex6_4, hf⟩ := lt1_s hf
        refine x_top (w := .int x6_4) (by rw [ex6_4]) ?_
        refine lv_istore (lv' := [(6, .int x6_4), (5, .ref ((hC hs) 10 0 (Int32.toNatClampNeg x4))), (0, .ref ((hC hs) 0 0 0)), (1, .int x1), (2, .int x2), (3, .int x3), (4, .int x4)]) hx hb dX0_annals_72 hl (by decide) rfl (fun ls hl => ?_)
        refine lv_aload hx hb dX0_annals_74 (lv_at hl 1 rfl) ?_
        refine lv_iconst (v := 0) hx hb dX0_annals_76 (by decide) ?_
        obtain ⟨σ_5, r_6, hg, hf⟩ := bn2_s hf
        refine x_calli (x_runV (As := [.int 0]) (rest := []) X K O (xct_obj (oks_b (B := 1) (b := 0) rfl (okI_lt c_2)) LC_10) rfl (m_C_X4_did (oks_b (B := 1) (b := 0) rfl (okI_lt c_2)) hg) EN_b EN_h (lw_V q1062 q1063 q1064 q122 q1065) 1 rfl hl.1 (Nat.le_of_ble_eq_true rfl) hdV_X4_did ⟨by decide, by decide⟩ ⟨Nat.le_refl _, Nat.le_refl _⟩ dX0_annals_77) (fun r u H locs hp O _ => ?_)
        cases hp
        have O : XH D A s.heap (hC hs) (xct (LC Δ) (okC Δ) (hC hs) d σ_5) H locs := O
        refine lv_if_le (tgt := 87) hx hb dX0_annals_80 (by decide) (fun c_7 => ?_) (fun c_7 => ?_)
        · replace hf := if_t c_7 hf
          refine lv_iconst (v := 0) hx hb dX0_annals_87 (by decide) ?_
          exact w_C_X0_annals_b88 X K ih _ _ _ _ _ _ _ _ (oks_b (B := 1) (b := 0) rfl (okI_lt c_2)) ls _ _ O (lv_sub hl [2, 3, 4, 5, 6, 1, 0] rfl) hf
        · replace hf := if_f c_7 hf
          refine lv_iconst (v := 1) hx hb dX0_annals_83 (by decide) ?_
          refine lv_goto (tgt := 88) hx hb dX0_annals_84 (by decide) ?_
          exact w_C_X0_annals_b88 X K ih _ _ _ _ _ _ _ _ (oks_b (B := 1) (b := 0) rfl (okI_lt c_2)) ls _ _ O (lv_sub hl [2, 3, 4, 5, 6, 1, 0] rfl) hf
      · replace hf := if_f c_3 hf
        refine lv_goto (tgt := 151) hx hb dX0_annals_62 (by decide) ?_
        exact w_C_X0_annals_b151 X K ih _ _ _ _ _ ls _ _ O (lv_sub hl [1, 2, 3, 4, 5] rfl) hf
def C_X0_annals (Δ : DT) (σ : ST) (p1 : Int32) (p2 : Int32) : Option (ST × Int32) :=
  bn2 (C_X0_isIn Δ σ p1 0 999) (fun σ_1 r_2 => (if r_2 = 0 then some (σ_1, (-1)) else bn2 (C_X0_isIn Δ σ_1 p2 0 3) (fun σ_4 r_5 => (if r_5 = 0 then some (σ_4, (-1)) else C_X0_annals_b27 Δ FUEL σ_4 p1 p2 0 0))))
theorem m_C_X0_annals {l : Launch} {D : va_G} {d : Nat → ClassId} {hs : IX} {Δ : DT} {p1 : Int32} {p2 : Int32} {σ : ST} {z : ST × Int32} (hf : C_X0_annals Δ σ p1 p2 = some z) : XM l D d EN yX0_annals cX0_annals 8 (some .int) 1 0 0 [.ref ((hC hs) 0 0 0), .int p1, .int p2] (hC hs) (xct (LC Δ) (okC Δ) (hC hs) d σ) (Qi D (pz z) (cw (hC hs) (LC Δ) (okC Δ) d)) := by
  refine XM.of (by decide +kernel) (Nat.le_of_ble_eq_true rfl) ?_
  intro p e s m below meth c A ls X _ K _ O hl
  have hl : lv_has ls 8 [(0, .ref ((hC hs) 0 0 0)), (1, .int p1), (2, .int p2)] := hl
  have hx := X.1.1; have hb := X.1.2.1
  rw [C_X0_annals] at hf
  refine lv_iload_n hx hb dX0_annals_0 rfl (lv_at hl 1 rfl) ?_
  refine lv_iconst (v := 0) hx hb dX0_annals_1 (by decide) ?_
  refine lv_sipush (v := 999) hx hb dX0_annals_2 (by decide) ?_
  obtain ⟨σ_1, r_2, hg, hf⟩ := bn2_s hf
  refine x_calli (x_runS (As := [.int p1, .int 0, .int 999]) (rest := []) X K O (m_C_X0_isIn hg) EN_b EN_h (lw_S q444 q445 q111 q446) 3 rfl hl.1 (Nat.le_of_ble_eq_true rfl) hdS_X0_isIn ⟨by decide, by decide⟩ ⟨Nat.le_refl _, Nat.le_refl _⟩ dX0_annals_5) (fun r u H locs hp O _ => ?_)
  cases hp
  have O : XH D A s.heap (hC hs) (xct (LC Δ) (okC Δ) (hC hs) d σ_1) H locs := O
  refine lv_if_eq (tgt := 20) hx hb dX0_annals_8 (by decide) (fun c_3 => ?_) (fun c_3 => ?_)
  · replace hf := if_t c_3 hf
    refine lv_iconst (v := (-1)) hx hb dX0_annals_20 (by decide) ?_
    exact x_iret X O rfl _ (Option.some.inj hf).symm rfl dX0_annals_21
  · replace hf := if_f c_3 hf
    refine lv_iload_n hx hb dX0_annals_11 rfl (lv_at hl 2 rfl) ?_
    refine lv_iconst (v := 0) hx hb dX0_annals_12 (by decide) ?_
    refine lv_iconst (v := 3) hx hb dX0_annals_13 (by decide) ?_
    obtain ⟨σ_4, r_5, hg, hf⟩ := bn2_s hf
    refine x_calli (x_runS (As := [.int p2, .int 0, .int 3]) (rest := []) X K O (m_C_X0_isIn hg) EN_b EN_h (lw_S q444 q445 q111 q446) 3 rfl hl.1 (Nat.le_of_ble_eq_true rfl) hdS_X0_isIn ⟨by decide, by decide⟩ ⟨Nat.le_refl _, Nat.le_refl _⟩ dX0_annals_14) (fun r u H locs hp O _ => ?_)
    cases hp
    have O : XH D A s.heap (hC hs) (xct (LC Δ) (okC Δ) (hC hs) d σ_4) H locs := O
    refine lv_if_ne (tgt := 22) hx hb dX0_annals_17 (by decide) (fun c_6 => ?_) (fun c_6 => ?_)
    · replace hf := if_f c_6 hf
      refine lv_iconst (v := 0) hx hb dX0_annals_22 (by decide) ?_
      refine lv_istore_n (lv' := [(3, .int 0), (0, .ref ((hC hs) 0 0 0)), (1, .int p1), (2, .int p2)]) hx hb dX0_annals_23 rfl hl (by decide) rfl (fun ls hl => ?_)
      refine lv_iconst (v := 0) hx hb dX0_annals_24 (by decide) ?_
      refine lv_istore (lv' := [(4, .int 0), (3, .int 0), (0, .ref ((hC hs) 0 0 0)), (1, .int p1), (2, .int p2)]) hx hb dX0_annals_25 hl (by decide) rfl (fun ls hl => ?_)
      exact w_C_X0_annals_b27 X K _ _ _ _ _ _ ls _ _ O (lv_sub hl [2, 3, 4, 1, 0] rfl) hf
    · replace hf := if_t c_6 hf
      refine lv_iconst (v := (-1)) hx hb dX0_annals_20 (by decide) ?_
      exact x_iret X O rfl _ (Option.some.inj hf).symm rfl dX0_annals_21
theorem hdV_X4_age : yX4_age.cls = RX4 ∧ (yX4_age.cls ≠ "java/lang/invoke/MethodHandle" ∧ yX4_age.cls ≠ "java/lang/invoke/VarHandle" ∧ (parseMethodDescriptor yX4_age.desc).map (fun d => d.parameters.length) = some 1) := by decide +kernel
def C_X0_trust_b114 (Δ : DT) (kb26 : ST → Int32 → Int32 → Int32 → Int32 → Option (ST × Int32)) (kb41 : ST → Int32 → Int32 → Int32 → Int32 → Int32 → Option (ST × Int32)) (σ : ST) (x1 : Int32) (x2 : Int32) (x3 : Int32) (x4 : Int32) (x5 : Int32) : Option (ST × Int32) :=
  lt1 (x5 + 1) (fun x5_1 => kb41 σ x1 x2 x3 x4 x5_1)
theorem w_C_X0_trust_b114 {Δ : DT} (X : FX p m c meth s args RX0 cX0_trust 7 (some .int)) (K : XK D d A s) {z : ST × Int32} {kb26 : ST → Int32 → Int32 → Int32 → Int32 → Option (ST × Int32)} (hkb26 : ∀ (σ : ST) (x1 : Int32) (x2 : Int32) (x3 : Int32) (x4 : Int32) (ls : Array Slot) (H : Heap) (locs : List Loc), XH D A s.heap (hC hs) (xct (LC Δ) (okC Δ) (hC hs) d σ) H locs → lv_has ls 7 [(0, .ref ((hC hs) 0 0 0)), (1, .int x1), (2, .int x2), (3, .int x3), (4, .int x4)] → kb26 σ x1 x2 x3 x4 = some z → W p l e (rmD 1 0 0) s m args below meth c H locs 0 0 (MQ below (Qi D (pz z) (cw (hC hs) (LC Δ) (okC Δ) d) A) args s 0 0 A) (F0 m 26 ls [])) {kb41 : ST → Int32 → Int32 → Int32 → Int32 → Int32 → Option (ST × Int32)} (hkb41 : ∀ (σ : ST) (x1 : Int32) (x2 : Int32) (x3 : Int32) (x4 : Int32) (x5 : Int32) (ls : Array Slot) (H : Heap) (locs : List Loc), XH D A s.heap (hC hs) (xct (LC Δ) (okC Δ) (hC hs) d σ) H locs → lv_has ls 7 [(0, .ref ((hC hs) 0 0 0)), (1, .int x1), (2, .int x2), (3, .int x3), (4, .int x4), (5, .int x5)] → kb41 σ x1 x2 x3 x4 x5 = some z → W p l e (rmD 1 0 0) s m args below meth c H locs 0 0 (MQ below (Qi D (pz z) (cw (hC hs) (LC Δ) (okC Δ) d) A) args s 0 0 A) (F0 m 41 ls [])) (σ : ST) (x1 : Int32) (x2 : Int32) (x3 : Int32) (x4 : Int32) (x5 : Int32) (ls : Array Slot) (H : Heap) (locs : List Loc) (O : XH D A s.heap (hC hs) (xct (LC Δ) (okC Δ) (hC hs) d σ) H locs) (hl : lv_has ls 7 [(0, .ref ((hC hs) 0 0 0)), (1, .int x1), (2, .int x2), (3, .int x3), (4, .int x4), (5, .int x5)]) (hf : C_X0_trust_b114 Δ kb26 kb41 σ x1 x2 x3 x4 x5 = some z) : W p l e (rmD 1 0 0) s m args below meth c H locs 0 0 (MQ below (Qi D (pz z) (cw (hC hs) (LC Δ) (okC Δ) d) A) args s 0 0 A) (F0 m 114 ls []) := by
  have hx := X.1.1; have hb := X.1.2.1
  rw [C_X0_trust_b114] at hf
  obtain ⟨x5_1, ex5_1, hf⟩ := lt1_s hf
  refine lv_iinc (v := x5_1) (lv' := [(5, .int x5_1), (0, .ref ((hC hs) 0 0 0)), (1, .int x1), (2, .int x2), (3, .int x3), (4, .int x4)]) hx hb dX0_trust_114 hl (k := 5) rfl (by rw [ex5_1]; rfl) (by decide) rfl (fun ls hl => ?_)
  refine lv_goto (tgt := 41) hx hb dX0_trust_117 (by decide) ?_
  exact hkb41 _ _ _ _ _ _ ls _ _ O (lv_sub hl [1, 2, 3, 4, 5, 0] rfl) hf
def C_X0_trust_b112 (Δ : DT) (kb26 : ST → Int32 → Int32 → Int32 → Int32 → Option (ST × Int32)) (kb41 : ST → Int32 → Int32 → Int32 → Int32 → Int32 → Option (ST × Int32)) (σ : ST) (x1 : Int32) (x2 : Int32) (x4 : Int32) (x5 : Int32) (s0 : Int32) (s1 : Int32) : Option (ST × Int32) :=
  lt1 (s0 + s1) (fun x3_1 => C_X0_trust_b114 Δ kb26 kb41 σ x1 x2 x3_1 x4 x5)
theorem w_C_X0_trust_b112 {Δ : DT} (X : FX p m c meth s args RX0 cX0_trust 7 (some .int)) (K : XK D d A s) {z : ST × Int32} {kb26 : ST → Int32 → Int32 → Int32 → Int32 → Option (ST × Int32)} (hkb26 : ∀ (σ : ST) (x1 : Int32) (x2 : Int32) (x3 : Int32) (x4 : Int32) (ls : Array Slot) (H : Heap) (locs : List Loc), XH D A s.heap (hC hs) (xct (LC Δ) (okC Δ) (hC hs) d σ) H locs → lv_has ls 7 [(0, .ref ((hC hs) 0 0 0)), (1, .int x1), (2, .int x2), (3, .int x3), (4, .int x4)] → kb26 σ x1 x2 x3 x4 = some z → W p l e (rmD 1 0 0) s m args below meth c H locs 0 0 (MQ below (Qi D (pz z) (cw (hC hs) (LC Δ) (okC Δ) d) A) args s 0 0 A) (F0 m 26 ls [])) {kb41 : ST → Int32 → Int32 → Int32 → Int32 → Int32 → Option (ST × Int32)} (hkb41 : ∀ (σ : ST) (x1 : Int32) (x2 : Int32) (x3 : Int32) (x4 : Int32) (x5 : Int32) (ls : Array Slot) (H : Heap) (locs : List Loc), XH D A s.heap (hC hs) (xct (LC Δ) (okC Δ) (hC hs) d σ) H locs → lv_has ls 7 [(0, .ref ((hC hs) 0 0 0)), (1, .int x1), (2, .int x2), (3, .int x3), (4, .int x4), (5, .int x5)] → kb41 σ x1 x2 x3 x4 x5 = some z → W p l e (rmD 1 0 0) s m args below meth c H locs 0 0 (MQ below (Qi D (pz z) (cw (hC hs) (LC Δ) (okC Δ) d) A) args s 0 0 A) (F0 m 41 ls [])) (σ : ST) (x1 : Int32) (x2 : Int32) (x4 : Int32) (x5 : Int32) (s0 : Int32) (s1 : Int32) (ls : Array Slot) (H : Heap) (locs : List Loc) (O : XH D A s.heap (hC hs) (xct (LC Δ) (okC Δ) (hC hs) d σ) H locs) (hl : lv_has ls 7 [(0, .ref ((hC hs) 0 0 0)), (1, .int x1), (2, .int x2), (4, .int x4), (5, .int x5)]) (hf : C_X0_trust_b112 Δ kb26 kb41 σ x1 x2 x4 x5 s0 s1 = some z) : W p l e (rmD 1 0 0) s m args below meth c H locs 0 0 (MQ below (Qi D (pz z) (cw (hC hs) (LC Δ) (okC Δ) d) A) args s 0 0 A) (F0 m 112 ls [.int s1, .int s0]) := by
  have hx := X.1.1; have hb := X.1.2.1
  rw [C_X0_trust_b112] at hf
  refine lv_iadd hx hb dX0_trust_112 ?_
  obtain ⟨x3_1, ex3_1, hf⟩ := lt1_s hf
  refine x_top (w := .int x3_1) (by rw [ex3_1]) ?_
  refine lv_istore_n (lv' := [(3, .int x3_1), (0, .ref ((hC hs) 0 0 0)), (1, .int x1), (2, .int x2), (4, .int x4), (5, .int x5)]) hx hb dX0_trust_113 rfl hl (by decide) rfl (fun ls hl => ?_)
  exact w_C_X0_trust_b114 X K hkb26 hkb41 _ _ _ _ _ _ ls _ _ O (lv_sub hl [1, 2, 3, 0, 4, 5] rfl) hf
def C_X0_trust_b107 (Δ : DT) (kb26 : ST → Int32 → Int32 → Int32 → Int32 → Option (ST × Int32)) (kb41 : ST → Int32 → Int32 → Int32 → Int32 → Int32 → Option (ST × Int32)) (σ : ST) (x1 : Int32) (x2 : Int32) (x4 : Int32) (x5 : Int32) (s0 : Int32) : Option (ST × Int32) :=
  C_X0_trust_b112 Δ kb26 kb41 σ x1 x2 x4 x5 s0 1
theorem w_C_X0_trust_b107 {Δ : DT} (X : FX p m c meth s args RX0 cX0_trust 7 (some .int)) (K : XK D d A s) {z : ST × Int32} {kb26 : ST → Int32 → Int32 → Int32 → Int32 → Option (ST × Int32)} (hkb26 : ∀ (σ : ST) (x1 : Int32) (x2 : Int32) (x3 : Int32) (x4 : Int32) (ls : Array Slot) (H : Heap) (locs : List Loc), XH D A s.heap (hC hs) (xct (LC Δ) (okC Δ) (hC hs) d σ) H locs → lv_has ls 7 [(0, .ref ((hC hs) 0 0 0)), (1, .int x1), (2, .int x2), (3, .int x3), (4, .int x4)] → kb26 σ x1 x2 x3 x4 = some z → W p l e (rmD 1 0 0) s m args below meth c H locs 0 0 (MQ below (Qi D (pz z) (cw (hC hs) (LC Δ) (okC Δ) d) A) args s 0 0 A) (F0 m 26 ls [])) {kb41 : ST → Int32 → Int32 → Int32 → Int32 → Int32 → Option (ST × Int32)} (hkb41 : ∀ (σ : ST) (x1 : Int32) (x2 : Int32) (x3 : Int32) (x4 : Int32) (x5 : Int32) (ls : Array Slot) (H : Heap) (locs : List Loc), XH D A s.heap (hC hs) (xct (LC Δ) (okC Δ) (hC hs) d σ) H locs → lv_has ls 7 [(0, .ref ((hC hs) 0 0 0)), (1, .int x1), (2, .int x2), (3, .int x3), (4, .int x4), (5, .int x5)] → kb41 σ x1 x2 x3 x4 x5 = some z → W p l e (rmD 1 0 0) s m args below meth c H locs 0 0 (MQ below (Qi D (pz z) (cw (hC hs) (LC Δ) (okC Δ) d) A) args s 0 0 A) (F0 m 41 ls [])) (σ : ST) (x1 : Int32) (x2 : Int32) (x4 : Int32) (x5 : Int32) (s0 : Int32) (ls : Array Slot) (H : Heap) (locs : List Loc) (O : XH D A s.heap (hC hs) (xct (LC Δ) (okC Δ) (hC hs) d σ) H locs) (hl : lv_has ls 7 [(0, .ref ((hC hs) 0 0 0)), (1, .int x1), (2, .int x2), (4, .int x4), (5, .int x5)]) (hf : C_X0_trust_b107 Δ kb26 kb41 σ x1 x2 x4 x5 s0 = some z) : W p l e (rmD 1 0 0) s m args below meth c H locs 0 0 (MQ below (Qi D (pz z) (cw (hC hs) (LC Δ) (okC Δ) d) A) args s 0 0 A) (F0 m 107 ls [.int s0]) := by
  have hx := X.1.1; have hb := X.1.2.1
  rw [C_X0_trust_b107] at hf
  refine lv_iconst (v := 1) hx hb dX0_trust_107 (by decide) ?_
  refine lv_goto (tgt := 112) hx hb dX0_trust_108 (by decide) ?_
  exact w_C_X0_trust_b112 X K hkb26 hkb41 _ _ _ _ _ _ _ ls _ _ O (lv_sub hl [0, 1, 2, 3, 4] rfl) hf
def C_X0_trust_b111 (Δ : DT) (kb26 : ST → Int32 → Int32 → Int32 → Int32 → Option (ST × Int32)) (kb41 : ST → Int32 → Int32 → Int32 → Int32 → Int32 → Option (ST × Int32)) (σ : ST) (x1 : Int32) (x2 : Int32) (x4 : Int32) (x5 : Int32) (s0 : Int32) : Option (ST × Int32) :=
  C_X0_trust_b112 Δ kb26 kb41 σ x1 x2 x4 x5 s0 0
theorem w_C_X0_trust_b111 {Δ : DT} (X : FX p m c meth s args RX0 cX0_trust 7 (some .int)) (K : XK D d A s) {z : ST × Int32} {kb26 : ST → Int32 → Int32 → Int32 → Int32 → Option (ST × Int32)} (hkb26 : ∀ (σ : ST) (x1 : Int32) (x2 : Int32) (x3 : Int32) (x4 : Int32) (ls : Array Slot) (H : Heap) (locs : List Loc), XH D A s.heap (hC hs) (xct (LC Δ) (okC Δ) (hC hs) d σ) H locs → lv_has ls 7 [(0, .ref ((hC hs) 0 0 0)), (1, .int x1), (2, .int x2), (3, .int x3), (4, .int x4)] → kb26 σ x1 x2 x3 x4 = some z → W p l e (rmD 1 0 0) s m args below meth c H locs 0 0 (MQ below (Qi D (pz z) (cw (hC hs) (LC Δ) (okC Δ) d) A) args s 0 0 A) (F0 m 26 ls [])) {kb41 : ST → Int32 → Int32 → Int32 → Int32 → Int32 → Option (ST × Int32)} (hkb41 : ∀ (σ : ST) (x1 : Int32) (x2 : Int32) (x3 : Int32) (x4 : Int32) (x5 : Int32) (ls : Array Slot) (H : Heap) (locs : List Loc), XH D A s.heap (hC hs) (xct (LC Δ) (okC Δ) (hC hs) d σ) H locs → lv_has ls 7 [(0, .ref ((hC hs) 0 0 0)), (1, .int x1), (2, .int x2), (3, .int x3), (4, .int x4), (5, .int x5)] → kb41 σ x1 x2 x3 x4 x5 = some z → W p l e (rmD 1 0 0) s m args below meth c H locs 0 0 (MQ below (Qi D (pz z) (cw (hC hs) (LC Δ) (okC Δ) d) A) args s 0 0 A) (F0 m 41 ls [])) (σ : ST) (x1 : Int32) (x2 : Int32) (x4 : Int32) (x5 : Int32) (s0 : Int32) (ls : Array Slot) (H : Heap) (locs : List Loc) (O : XH D A s.heap (hC hs) (xct (LC Δ) (okC Δ) (hC hs) d σ) H locs) (hl : lv_has ls 7 [(0, .ref ((hC hs) 0 0 0)), (1, .int x1), (2, .int x2), (4, .int x4), (5, .int x5)]) (hf : C_X0_trust_b111 Δ kb26 kb41 σ x1 x2 x4 x5 s0 = some z) : W p l e (rmD 1 0 0) s m args below meth c H locs 0 0 (MQ below (Qi D (pz z) (cw (hC hs) (LC Δ) (okC Δ) d) A) args s 0 0 A) (F0 m 111 ls [.int s0]) := by
  have hx := X.1.1; have hb := X.1.2.1
  rw [C_X0_trust_b111] at hf
  refine lv_iconst (v := 0) hx hb dX0_trust_111 (by decide) ?_
  exact w_C_X0_trust_b112 X K hkb26 hkb41 _ _ _ _ _ _ _ ls _ _ O (lv_sub hl [0, 1, 2, 3, 4] rfl) hf
def C_X0_trust_b41 (Δ : DT) (kb26 : ST → Int32 → Int32 → Int32 → Int32 → Option (ST × Int32)) : Nat → ST → Int32 → Int32 → Int32 → Int32 → Int32 → Option (ST × Int32)
  | 0, _, _, _, _, _, _ => none
  | n + 1, σ, x1, x2, x3, x4, x5 =>
    (if 2 ≤ x5 then lt1 (x4 + 1) (fun x4_2 => kb26 σ x1 x2 x3 x4_2) else ck (okI x4 300) (bn2 (C_X4_age Δ 0 (Int32.toNatClampNeg x4) σ x5) (fun σ_4 r_5 => (if (r_5 / 10) = x1 then (if x2 = 0 then C_X0_trust_b107 Δ kb26 (C_X0_trust_b41 Δ kb26 n) σ_4 x1 x2 x4 x5 x3 else bn2 (C_X4_did Δ 0 (Int32.toNatClampNeg x4) σ_4 x5) (fun σ_8 r_9 => (if r_9 ≤ 0 then C_X0_trust_b111 Δ kb26 (C_X0_trust_b41 Δ kb26 n) σ_8 x1 x2 x4 x5 x3 else (if x2 = 1 then C_X0_trust_b107 Δ kb26 (C_X0_trust_b41 Δ kb26 n) σ_8 x1 x2 x4 x5 x3 else bn2 (C_X4_did Δ 0 (Int32.toNatClampNeg x4) σ_8 x5) (fun σ_12 r_13 => (if 3 ≤ r_13 then C_X0_trust_b111 Δ kb26 (C_X0_trust_b41 Δ kb26 n) σ_12 x1 x2 x4 x5 x3 else C_X0_trust_b107 Δ kb26 (C_X0_trust_b41 Δ kb26 n) σ_12 x1 x2 x4 x5 x3)))))) else C_X0_trust_b114 Δ kb26 (C_X0_trust_b41 Δ kb26 n) σ_4 x1 x2 x3 x4 x5))))
theorem w_C_X0_trust_b41 {Δ : DT} (X : FX p m c meth s args RX0 cX0_trust 7 (some .int)) (K : XK D d A s) {z : ST × Int32} {kb26 : ST → Int32 → Int32 → Int32 → Int32 → Option (ST × Int32)} (hkb26 : ∀ (σ : ST) (x1 : Int32) (x2 : Int32) (x3 : Int32) (x4 : Int32) (ls : Array Slot) (H : Heap) (locs : List Loc), XH D A s.heap (hC hs) (xct (LC Δ) (okC Δ) (hC hs) d σ) H locs → lv_has ls 7 [(0, .ref ((hC hs) 0 0 0)), (1, .int x1), (2, .int x2), (3, .int x3), (4, .int x4)] → kb26 σ x1 x2 x3 x4 = some z → W p l e (rmD 1 0 0) s m args below meth c H locs 0 0 (MQ below (Qi D (pz z) (cw (hC hs) (LC Δ) (okC Δ) d) A) args s 0 0 A) (F0 m 26 ls [])) : ∀ (n : Nat) (σ : ST) (x1 : Int32) (x2 : Int32) (x3 : Int32) (x4 : Int32) (x5 : Int32) (ls : Array Slot) (H : Heap) (locs : List Loc), XH D A s.heap (hC hs) (xct (LC Δ) (okC Δ) (hC hs) d σ) H locs → lv_has ls 7 [(0, .ref ((hC hs) 0 0 0)), (1, .int x1), (2, .int x2), (3, .int x3), (4, .int x4), (5, .int x5)] → C_X0_trust_b41 Δ kb26 n σ x1 x2 x3 x4 x5 = some z → W p l e (rmD 1 0 0) s m args below meth c H locs 0 0 (MQ below (Qi D (pz z) (cw (hC hs) (LC Δ) (okC Δ) d) A) args s 0 0 A) (F0 m 41 ls []) := by
  have hx := X.1.1; have hb := X.1.2.1
  intro n
  induction n with
  | zero =>
    intro σ x1 x2 x3 x4 x5 ls H locs O hl hf
    exact absurd hf (fun q => by cases q)
  | succ n ih =>
    intro σ x1 x2 x3 x4 x5 ls H locs O hl hf
    rw [C_X0_trust_b41] at hf
    refine lv_iload hx hb dX0_trust_41 (lv_at hl 5 rfl) ?_
    refine lv_iconst (v := 2) hx hb dX0_trust_43 (by decide) ?_
    refine lv_icmp_ge (tgt := 120) hx hb dX0_trust_44 (by decide) (fun c_1 => ?_) (fun c_1 => ?_)
    · replace hf := if_t c_1 hf
      obtain ⟨x4_2, ex4_2, hf⟩ := lt1_s hf
      refine lv_iinc (v := x4_2) (lv' := [(4, .int x4_2), (0, .ref ((hC hs) 0 0 0)), (1, .int x1), (2, .int x2), (3, .int x3), (5, .int x5)]) hx hb dX0_trust_120 hl (k := 4) rfl (by rw [ex4_2]; rfl) (by decide) rfl (fun ls hl => ?_)
      refine lv_goto (tgt := 26) hx hb dX0_trust_123 (by decide) ?_
      exact hkb26 _ _ _ _ _ ls _ _ O (lv_sub hl [1, 2, 3, 4, 0] rfl) hf
    · replace hf := if_f c_1 hf
      refine lv_aload_n hx hb dX0_trust_47 rfl (lv_at hl 0 rfl) ?_
      refine x_gF X K O 6 rfl LC_0 rfl rfl in_X0 (by decide) q379 dX0_trust_48 ?_
      refine x_gFN X K O 1 rfl LC_1 rfl rfl in_X1 (by decide) q297 dX0_trust_51 ?_
      refine lv_iload hx hb dX0_trust_54 (lv_at hl 4 rfl) ?_
      obtain ⟨c_3, hf⟩ := ck_s hf
      refine x_ald X K O 4 rfl LC_6 (by decide) rfl rfl c_3 (j := (Int32.toNatClampNeg x4)) rfl dX0_trust_56 ?_
      refine lv_astore (lv' := [(6, .ref ((hC hs) 10 0 (Int32.toNatClampNeg x4))), (0, .ref ((hC hs) 0 0 0)), (1, .int x1), (2, .int x2), (3, .int x3), (4, .int x4), (5, .int x5)]) hx hb dX0_trust_57 hl (by decide) rfl (fun ls hl => ?_)
      refine lv_aload hx hb dX0_trust_59 (lv_at hl 0 rfl) ?_
      refine lv_iload hx hb dX0_trust_61 (lv_at hl 6 rfl) ?_
      obtain ⟨σ_4, r_5, hg, hf⟩ := bn2_s hf
      refine x_calli (x_runV (As := [.int x5]) (rest := []) X K O (xct_obj (oks_b (B := 1) (b := 0) rfl (okI_lt c_3)) LC_10) rfl (m_C_X4_age (oks_b (B := 1) (b := 0) rfl (okI_lt c_3)) hg) EN_b EN_h (lw_V q1071 q1072 q1073 q122 q1074) 1 rfl hl.1 (Nat.le_of_ble_eq_true rfl) hdV_X4_age ⟨by decide, by decide⟩ ⟨Nat.le_refl _, Nat.le_refl _⟩ dX0_trust_63) (fun r u H locs hp O _ => ?_)
      cases hp
      have O : XH D A s.heap (hC hs) (xct (LC Δ) (okC Δ) (hC hs) d σ_4) H locs := O
      refine lv_bipush (v := 10) hx hb dX0_trust_66 (by decide) ?_
      refine lv_idiv hx hb dX0_trust_68 (by decide) ?_
      refine lv_iload_n hx hb dX0_trust_69 rfl (lv_at hl 2 rfl) ?_
      refine lv_icmp_eq (tgt := 76) hx hb dX0_trust_70 (by decide) (fun c_6 => ?_) (fun c_6 => ?_)
      · replace hf := if_t c_6 hf
        refine lv_iload_n hx hb dX0_trust_76 rfl (lv_at hl 4 rfl) ?_
        refine lv_iload_n hx hb dX0_trust_77 rfl (lv_at hl 3 rfl) ?_
        refine lv_if_eq (tgt := 107) hx hb dX0_trust_78 (by decide) (fun c_7 => ?_) (fun c_7 => ?_)
        · replace hf := if_t c_7 hf
          exact w_C_X0_trust_b107 X K hkb26 ih _ _ _ _ _ _ ls _ _ O (lv_sub hl [1, 2, 3, 5, 6] rfl) hf
        · replace hf := if_f c_7 hf
          refine lv_aload hx hb dX0_trust_81 (lv_at hl 0 rfl) ?_
          refine lv_iload hx hb dX0_trust_83 (lv_at hl 6 rfl) ?_
          obtain ⟨σ_8, r_9, hg, hf⟩ := bn2_s hf
          refine x_calli (x_runV (As := [.int x5]) (rest := [.int x3]) X K O (xct_obj (oks_b (B := 1) (b := 0) rfl (okI_lt c_3)) LC_10) rfl (m_C_X4_did (oks_b (B := 1) (b := 0) rfl (okI_lt c_3)) hg) EN_b EN_h (lw_V q1062 q1063 q1064 q122 q1065) 1 rfl hl.1 (Nat.le_of_ble_eq_true rfl) hdV_X4_did ⟨by decide, by decide⟩ ⟨Nat.le_refl _, Nat.le_refl _⟩ dX0_trust_85) (fun r u H locs hp O _ => ?_)
          cases hp
          have O : XH D A s.heap (hC hs) (xct (LC Δ) (okC Δ) (hC hs) d σ_8) H locs := O
          refine lv_if_le (tgt := 111) hx hb dX0_trust_88 (by decide) (fun c_10 => ?_) (fun c_10 => ?_)
          · replace hf := if_t c_10 hf
            exact w_C_X0_trust_b111 X K hkb26 ih _ _ _ _ _ _ ls _ _ O (lv_sub hl [1, 2, 3, 5, 6] rfl) hf
          · replace hf := if_f c_10 hf
            refine lv_iload_n hx hb dX0_trust_91 rfl (lv_at hl 3 rfl) ?_
            refine lv_iconst (v := 1) hx hb dX0_trust_92 (by decide) ?_
            refine lv_icmp_eq (tgt := 107) hx hb dX0_trust_93 (by decide) (fun c_11 => ?_) (fun c_11 => ?_)
            · replace hf := if_t c_11 hf
              exact w_C_X0_trust_b107 X K hkb26 ih _ _ _ _ _ _ ls _ _ O (lv_sub hl [1, 2, 3, 5, 6] rfl) hf
            · replace hf := if_f c_11 hf
              refine lv_aload hx hb dX0_trust_96 (lv_at hl 0 rfl) ?_
              refine lv_iload hx hb dX0_trust_98 (lv_at hl 6 rfl) ?_
              obtain ⟨σ_12, r_13, hg, hf⟩ := bn2_s hf
              refine x_calli (x_runV (As := [.int x5]) (rest := [.int x3]) X K O (xct_obj (oks_b (B := 1) (b := 0) rfl (okI_lt c_3)) LC_10) rfl (m_C_X4_did (oks_b (B := 1) (b := 0) rfl (okI_lt c_3)) hg) EN_b EN_h (lw_V q1062 q1063 q1064 q122 q1065) 1 rfl hl.1 (Nat.le_of_ble_eq_true rfl) hdV_X4_did ⟨by decide, by decide⟩ ⟨Nat.le_refl _, Nat.le_refl _⟩ dX0_trust_100) (fun r u H locs hp O _ => ?_)
              cases hp
              have O : XH D A s.heap (hC hs) (xct (LC Δ) (okC Δ) (hC hs) d σ_12) H locs := O
              refine lv_iconst (v := 3) hx hb dX0_trust_103 (by decide) ?_
              refine lv_icmp_ge (tgt := 111) hx hb dX0_trust_104 (by decide) (fun c_14 => ?_) (fun c_14 => ?_)
              · replace hf := if_t c_14 hf
                exact w_C_X0_trust_b111 X K hkb26 ih _ _ _ _ _ _ ls _ _ O (lv_sub hl [1, 2, 3, 5, 6] rfl) hf
              · replace hf := if_f c_14 hf
                exact w_C_X0_trust_b107 X K hkb26 ih _ _ _ _ _ _ ls _ _ O (lv_sub hl [1, 2, 3, 5, 6] rfl) hf
      · replace hf := if_f c_6 hf
        refine lv_goto (tgt := 114) hx hb dX0_trust_73 (by decide) ?_
        exact w_C_X0_trust_b114 X K hkb26 ih _ _ _ _ _ _ ls _ _ O (lv_sub hl [1, 2, 3, 4, 5, 6] rfl) hf
def C_X0_trust_b26 (Δ : DT) : Nat → ST → Int32 → Int32 → Int32 → Int32 → Option (ST × Int32)
  | 0, _, _, _, _, _ => none
  | n + 1, σ, x1, x2, x3, x4 =>
    (if (gI σ 1 0 0 6) ≤ x4 then some (σ, x3) else C_X0_trust_b41 Δ (C_X0_trust_b26 Δ n) FUEL σ x1 x2 x3 x4 0)
theorem w_C_X0_trust_b26 {Δ : DT} (X : FX p m c meth s args RX0 cX0_trust 7 (some .int)) (K : XK D d A s) {z : ST × Int32} : ∀ (n : Nat) (σ : ST) (x1 : Int32) (x2 : Int32) (x3 : Int32) (x4 : Int32) (ls : Array Slot) (H : Heap) (locs : List Loc), XH D A s.heap (hC hs) (xct (LC Δ) (okC Δ) (hC hs) d σ) H locs → lv_has ls 7 [(0, .ref ((hC hs) 0 0 0)), (1, .int x1), (2, .int x2), (3, .int x3), (4, .int x4)] → C_X0_trust_b26 Δ n σ x1 x2 x3 x4 = some z → W p l e (rmD 1 0 0) s m args below meth c H locs 0 0 (MQ below (Qi D (pz z) (cw (hC hs) (LC Δ) (okC Δ) d) A) args s 0 0 A) (F0 m 26 ls []) := by
  have hx := X.1.1; have hb := X.1.2.1
  intro n
  induction n with
  | zero =>
    intro σ x1 x2 x3 x4 ls H locs O hl hf
    exact absurd hf (fun q => by cases q)
  | succ n ih =>
    intro σ x1 x2 x3 x4 ls H locs O hl hf
    rw [C_X0_trust_b26] at hf
    refine lv_iload hx hb dX0_trust_26 (lv_at hl 4 rfl) ?_
    refine lv_aload_n hx hb dX0_trust_28 rfl (lv_at hl 0 rfl) ?_
    refine x_gF X K O 6 rfl LC_0 rfl rfl in_X0 (by decide) q379 dX0_trust_29 ?_
    refine x_gIN X K O 6 rfl LC_1 rfl rfl in_X1 (by decide) q306 dX0_trust_32 ?_
    refine lv_icmp_ge (tgt := 126) hx hb dX0_trust_35 (by decide) (fun c_1 => ?_) (fun c_1 => ?_)
    · replace hf := if_t c_1 hf
      refine lv_iload_n hx hb dX0_trust_126 rfl (lv_at hl 3 rfl) ?_
      exact x_iret X O rfl _ (Option.some.inj hf).symm rfl dX0_trust_127
    · replace hf := if_f c_1 hf
      refine lv_iconst (v := 0) hx hb dX0_trust_38 (by decide) ?_
      refine lv_istore (lv' := [(5, .int 0), (0, .ref ((hC hs) 0 0 0)), (1, .int x1), (2, .int x2), (3, .int x3), (4, .int x4)]) hx hb dX0_trust_39 hl (by decide) rfl (fun ls hl => ?_)
      exact w_C_X0_trust_b41 X K ih _ _ _ _ _ _ _ ls _ _ O (lv_sub hl [1, 2, 3, 4, 5, 0] rfl) hf
def C_X0_trust (Δ : DT) (σ : ST) (p1 : Int32) (p2 : Int32) : Option (ST × Int32) :=
  bn2 (C_X0_isIn Δ σ p1 0 9) (fun σ_1 r_2 => (if r_2 = 0 then some (σ_1, (-1)) else bn2 (C_X0_isIn Δ σ_1 p2 0 2) (fun σ_4 r_5 => (if r_5 = 0 then some (σ_4, (-1)) else C_X0_trust_b26 Δ FUEL σ_4 p1 p2 0 0))))
theorem m_C_X0_trust {l : Launch} {D : va_G} {d : Nat → ClassId} {hs : IX} {Δ : DT} {p1 : Int32} {p2 : Int32} {σ : ST} {z : ST × Int32} (hf : C_X0_trust Δ σ p1 p2 = some z) : XM l D d EN yX0_trust cX0_trust 7 (some .int) 1 0 0 [.ref ((hC hs) 0 0 0), .int p1, .int p2] (hC hs) (xct (LC Δ) (okC Δ) (hC hs) d σ) (Qi D (pz z) (cw (hC hs) (LC Δ) (okC Δ) d)) := by
  refine XM.of (by decide +kernel) (Nat.le_of_ble_eq_true rfl) ?_
  intro p e s m below meth c A ls X _ K _ O hl
  have hl : lv_has ls 7 [(0, .ref ((hC hs) 0 0 0)), (1, .int p1), (2, .int p2)] := hl
  have hx := X.1.1; have hb := X.1.2.1
  rw [C_X0_trust] at hf
  refine lv_iload_n hx hb dX0_trust_0 rfl (lv_at hl 1 rfl) ?_
  refine lv_iconst (v := 0) hx hb dX0_trust_1 (by decide) ?_
  refine lv_bipush (v := 9) hx hb dX0_trust_2 (by decide) ?_
  obtain ⟨σ_1, r_2, hg, hf⟩ := bn2_s hf
  refine x_calli (x_runS (As := [.int p1, .int 0, .int 9]) (rest := []) X K O (m_C_X0_isIn hg) EN_b EN_h (lw_S q444 q445 q111 q446) 3 rfl hl.1 (Nat.le_of_ble_eq_true rfl) hdS_X0_isIn ⟨by decide, by decide⟩ ⟨Nat.le_refl _, Nat.le_refl _⟩ dX0_trust_4) (fun r u H locs hp O _ => ?_)
  cases hp
  have O : XH D A s.heap (hC hs) (xct (LC Δ) (okC Δ) (hC hs) d σ_1) H locs := O
  refine lv_if_eq (tgt := 19) hx hb dX0_trust_7 (by decide) (fun c_3 => ?_) (fun c_3 => ?_)
  · replace hf := if_t c_3 hf
    refine lv_iconst (v := (-1)) hx hb dX0_trust_19 (by decide) ?_
    exact x_iret X O rfl _ (Option.some.inj hf).symm rfl dX0_trust_20
  · replace hf := if_f c_3 hf
    refine lv_iload_n hx hb dX0_trust_10 rfl (lv_at hl 2 rfl) ?_
    refine lv_iconst (v := 0) hx hb dX0_trust_11 (by decide) ?_
    refine lv_iconst (v := 2) hx hb dX0_trust_12 (by decide) ?_
    obtain ⟨σ_4, r_5, hg, hf⟩ := bn2_s hf
    refine x_calli (x_runS (As := [.int p2, .int 0, .int 2]) (rest := []) X K O (m_C_X0_isIn hg) EN_b EN_h (lw_S q444 q445 q111 q446) 3 rfl hl.1 (Nat.le_of_ble_eq_true rfl) hdS_X0_isIn ⟨by decide, by decide⟩ ⟨Nat.le_refl _, Nat.le_refl _⟩ dX0_trust_13) (fun r u H locs hp O _ => ?_)
    cases hp
    have O : XH D A s.heap (hC hs) (xct (LC Δ) (okC Δ) (hC hs) d σ_4) H locs := O
    refine lv_if_ne (tgt := 21) hx hb dX0_trust_16 (by decide) (fun c_6 => ?_) (fun c_6 => ?_)
    · replace hf := if_f c_6 hf
      refine lv_iconst (v := 0) hx hb dX0_trust_21 (by decide) ?_
      refine lv_istore_n (lv' := [(3, .int 0), (0, .ref ((hC hs) 0 0 0)), (1, .int p1), (2, .int p2)]) hx hb dX0_trust_22 rfl hl (by decide) rfl (fun ls hl => ?_)
      refine lv_iconst (v := 0) hx hb dX0_trust_23 (by decide) ?_
      refine lv_istore (lv' := [(4, .int 0), (3, .int 0), (0, .ref ((hC hs) 0 0 0)), (1, .int p1), (2, .int p2)]) hx hb dX0_trust_24 hl (by decide) rfl (fun ls hl => ?_)
      exact w_C_X0_trust_b26 X K _ _ _ _ _ _ ls _ _ O (lv_sub hl [2, 3, 4, 1, 0] rfl) hf
    · replace hf := if_t c_6 hf
      refine lv_iconst (v := (-1)) hx hb dX0_trust_19 (by decide) ?_
      exact x_iret X O rfl _ (Option.some.inj hf).symm rfl dX0_trust_20
theorem hdV_X4_who : yX4_who.cls = RX4 ∧ (yX4_who.cls ≠ "java/lang/invoke/MethodHandle" ∧ yX4_who.cls ≠ "java/lang/invoke/VarHandle" ∧ (parseMethodDescriptor yX4_who.desc).map (fun d => d.parameters.length) = some 1) := by decide +kernel
def C_X0_held_b115 (Δ : DT) (kb25 : ST → Int32 → Int32 → Int32 → Int32 → Option (ST × Int32)) (kb40 : ST → Int32 → Int32 → Int32 → Int32 → Int32 → Option (ST × Int32)) (σ : ST) (x1 : Int32) (x2 : Int32) (x3 : Int32) (x4 : Int32) (x5 : Int32) : Option (ST × Int32) :=
  lt1 (x5 + 1) (fun x5_1 => kb40 σ x1 x2 x3 x4 x5_1)
theorem w_C_X0_held_b115 {Δ : DT} (X : FX p m c meth s args RX0 cX0_held 7 (some .int)) (K : XK D d A s) {z : ST × Int32} {kb25 : ST → Int32 → Int32 → Int32 → Int32 → Option (ST × Int32)} (hkb25 : ∀ (σ : ST) (x1 : Int32) (x2 : Int32) (x3 : Int32) (x4 : Int32) (ls : Array Slot) (H : Heap) (locs : List Loc), XH D A s.heap (hC hs) (xct (LC Δ) (okC Δ) (hC hs) d σ) H locs → lv_has ls 7 [(0, .ref ((hC hs) 0 0 0)), (1, .int x1), (2, .int x2), (3, .int x3), (4, .int x4)] → kb25 σ x1 x2 x3 x4 = some z → W p l e (rmD 2 0 0) s m args below meth c H locs 0 0 (MQ below (Qi D (pz z) (cw (hC hs) (LC Δ) (okC Δ) d) A) args s 0 0 A) (F0 m 25 ls [])) {kb40 : ST → Int32 → Int32 → Int32 → Int32 → Int32 → Option (ST × Int32)} (hkb40 : ∀ (σ : ST) (x1 : Int32) (x2 : Int32) (x3 : Int32) (x4 : Int32) (x5 : Int32) (ls : Array Slot) (H : Heap) (locs : List Loc), XH D A s.heap (hC hs) (xct (LC Δ) (okC Δ) (hC hs) d σ) H locs → lv_has ls 7 [(0, .ref ((hC hs) 0 0 0)), (1, .int x1), (2, .int x2), (3, .int x3), (4, .int x4), (5, .int x5)] → kb40 σ x1 x2 x3 x4 x5 = some z → W p l e (rmD 2 0 0) s m args below meth c H locs 0 0 (MQ below (Qi D (pz z) (cw (hC hs) (LC Δ) (okC Δ) d) A) args s 0 0 A) (F0 m 40 ls [])) (σ : ST) (x1 : Int32) (x2 : Int32) (x3 : Int32) (x4 : Int32) (x5 : Int32) (ls : Array Slot) (H : Heap) (locs : List Loc) (O : XH D A s.heap (hC hs) (xct (LC Δ) (okC Δ) (hC hs) d σ) H locs) (hl : lv_has ls 7 [(0, .ref ((hC hs) 0 0 0)), (1, .int x1), (2, .int x2), (3, .int x3), (4, .int x4), (5, .int x5)]) (hf : C_X0_held_b115 Δ kb25 kb40 σ x1 x2 x3 x4 x5 = some z) : W p l e (rmD 2 0 0) s m args below meth c H locs 0 0 (MQ below (Qi D (pz z) (cw (hC hs) (LC Δ) (okC Δ) d) A) args s 0 0 A) (F0 m 115 ls []) := by
  have hx := X.1.1; have hb := X.1.2.1
  rw [C_X0_held_b115] at hf
  obtain ⟨x5_1, ex5_1, hf⟩ := lt1_s hf
  refine lv_iinc (v := x5_1) (lv' := [(5, .int x5_1), (0, .ref ((hC hs) 0 0 0)), (1, .int x1), (2, .int x2), (3, .int x3), (4, .int x4)]) hx hb dX0_held_115 hl (k := 5) rfl (by rw [ex5_1]; rfl) (by decide) rfl (fun ls hl => ?_)
  refine lv_goto (tgt := 40) hx hb dX0_held_118 (by decide) ?_
  exact hkb40 _ _ _ _ _ _ ls _ _ O (lv_sub hl [1, 2, 3, 4, 5, 0] rfl) hf
def C_X0_held_b113 (Δ : DT) (kb25 : ST → Int32 → Int32 → Int32 → Int32 → Option (ST × Int32)) (kb40 : ST → Int32 → Int32 → Int32 → Int32 → Int32 → Option (ST × Int32)) (σ : ST) (x1 : Int32) (x2 : Int32) (x4 : Int32) (x5 : Int32) (s0 : Int32) (s1 : Int32) : Option (ST × Int32) :=
  lt1 (s0 + s1) (fun x3_1 => C_X0_held_b115 Δ kb25 kb40 σ x1 x2 x3_1 x4 x5)
theorem w_C_X0_held_b113 {Δ : DT} (X : FX p m c meth s args RX0 cX0_held 7 (some .int)) (K : XK D d A s) {z : ST × Int32} {kb25 : ST → Int32 → Int32 → Int32 → Int32 → Option (ST × Int32)} (hkb25 : ∀ (σ : ST) (x1 : Int32) (x2 : Int32) (x3 : Int32) (x4 : Int32) (ls : Array Slot) (H : Heap) (locs : List Loc), XH D A s.heap (hC hs) (xct (LC Δ) (okC Δ) (hC hs) d σ) H locs → lv_has ls 7 [(0, .ref ((hC hs) 0 0 0)), (1, .int x1), (2, .int x2), (3, .int x3), (4, .int x4)] → kb25 σ x1 x2 x3 x4 = some z → W p l e (rmD 2 0 0) s m args below meth c H locs 0 0 (MQ below (Qi D (pz z) (cw (hC hs) (LC Δ) (okC Δ) d) A) args s 0 0 A) (F0 m 25 ls [])) {kb40 : ST → Int32 → Int32 → Int32 → Int32 → Int32 → Option (ST × Int32)} (hkb40 : ∀ (σ : ST) (x1 : Int32) (x2 : Int32) (x3 : Int32) (x4 : Int32) (x5 : Int32) (ls : Array Slot) (H : Heap) (locs : List Loc), XH D A s.heap (hC hs) (xct (LC Δ) (okC Δ) (hC hs) d σ) H locs → lv_has ls 7 [(0, .ref ((hC hs) 0 0 0)), (1, .int x1), (2, .int x2), (3, .int x3), (4, .int x4), (5, .int x5)] → kb40 σ x1 x2 x3 x4 x5 = some z → W p l e (rmD 2 0 0) s m args below meth c H locs 0 0 (MQ below (Qi D (pz z) (cw (hC hs) (LC Δ) (okC Δ) d) A) args s 0 0 A) (F0 m 40 ls [])) (σ : ST) (x1 : Int32) (x2 : Int32) (x4 : Int32) (x5 : Int32) (s0 : Int32) (s1 : Int32) (ls : Array Slot) (H : Heap) (locs : List Loc) (O : XH D A s.heap (hC hs) (xct (LC Δ) (okC Δ) (hC hs) d σ) H locs) (hl : lv_has ls 7 [(0, .ref ((hC hs) 0 0 0)), (1, .int x1), (2, .int x2), (4, .int x4), (5, .int x5)]) (hf : C_X0_held_b113 Δ kb25 kb40 σ x1 x2 x4 x5 s0 s1 = some z) : W p l e (rmD 2 0 0) s m args below meth c H locs 0 0 (MQ below (Qi D (pz z) (cw (hC hs) (LC Δ) (okC Δ) d) A) args s 0 0 A) (F0 m 113 ls [.int s1, .int s0]) := by
  have hx := X.1.1; have hb := X.1.2.1
  rw [C_X0_held_b113] at hf
  refine lv_iadd hx hb dX0_held_113 ?_
  obtain ⟨x3_1, ex3_1, hf⟩ := lt1_s hf
  refine x_top (w := .int x3_1) (by rw [ex3_1]) ?_
  refine lv_istore_n (lv' := [(3, .int x3_1), (0, .ref ((hC hs) 0 0 0)), (1, .int x1), (2, .int x2), (4, .int x4), (5, .int x5)]) hx hb dX0_held_114 rfl hl (by decide) rfl (fun ls hl => ?_)
  exact w_C_X0_held_b115 X K hkb25 hkb40 _ _ _ _ _ _ ls _ _ O (lv_sub hl [1, 2, 3, 0, 4, 5] rfl) hf
def C_X0_held_b40 (Δ : DT) (kb25 : ST → Int32 → Int32 → Int32 → Int32 → Option (ST × Int32)) : Nat → ST → Int32 → Int32 → Int32 → Int32 → Int32 → Option (ST × Int32)
  | 0, _, _, _, _, _, _ => none
  | n + 1, σ, x1, x2, x3, x4, x5 =>
    (if 2 ≤ x5 then lt1 (x4 + 1) (fun x4_2 => kb25 σ x1 x2 x3 x4_2) else ck (okI x4 300) (bn2 (C_X4_who Δ 0 (Int32.toNatClampNeg x4) σ x5) (fun σ_4 r_5 => (if r_5 = x1 then (if x2 = 0 then bn2 (C_X4_did Δ 0 (Int32.toNatClampNeg x4) σ_4 x5) (fun σ_11 r_12 => (if (r_12 - r_12 / 3 * 3) = 0 then C_X0_held_b113 Δ kb25 (C_X0_held_b40 Δ kb25 n) σ_11 x1 x2 x4 x5 x3 1 else C_X0_held_b113 Δ kb25 (C_X0_held_b40 Δ kb25 n) σ_11 x1 x2 x4 x5 x3 0)) else bn2 (C_X4_did Δ 0 (Int32.toNatClampNeg x4) σ_4 x5) (fun σ_8 r_9 => (if r_9 = 1 then C_X0_held_b113 Δ kb25 (C_X0_held_b40 Δ kb25 n) σ_8 x1 x2 x4 x5 x3 1 else C_X0_held_b113 Δ kb25 (C_X0_held_b40 Δ kb25 n) σ_8 x1 x2 x4 x5 x3 0))) else C_X0_held_b115 Δ kb25 (C_X0_held_b40 Δ kb25 n) σ_4 x1 x2 x3 x4 x5))))
theorem w_C_X0_held_b40 {Δ : DT} (X : FX p m c meth s args RX0 cX0_held 7 (some .int)) (K : XK D d A s) {z : ST × Int32} {kb25 : ST → Int32 → Int32 → Int32 → Int32 → Option (ST × Int32)} (hkb25 : ∀ (σ : ST) (x1 : Int32) (x2 : Int32) (x3 : Int32) (x4 : Int32) (ls : Array Slot) (H : Heap) (locs : List Loc), XH D A s.heap (hC hs) (xct (LC Δ) (okC Δ) (hC hs) d σ) H locs → lv_has ls 7 [(0, .ref ((hC hs) 0 0 0)), (1, .int x1), (2, .int x2), (3, .int x3), (4, .int x4)] → kb25 σ x1 x2 x3 x4 = some z → W p l e (rmD 2 0 0) s m args below meth c H locs 0 0 (MQ below (Qi D (pz z) (cw (hC hs) (LC Δ) (okC Δ) d) A) args s 0 0 A) (F0 m 25 ls [])) : ∀ (n : Nat) (σ : ST) (x1 : Int32) (x2 : Int32) (x3 : Int32) (x4 : Int32) (x5 : Int32) (ls : Array Slot) (H : Heap) (locs : List Loc), XH D A s.heap (hC hs) (xct (LC Δ) (okC Δ) (hC hs) d σ) H locs → lv_has ls 7 [(0, .ref ((hC hs) 0 0 0)), (1, .int x1), (2, .int x2), (3, .int x3), (4, .int x4), (5, .int x5)] → C_X0_held_b40 Δ kb25 n σ x1 x2 x3 x4 x5 = some z → W p l e (rmD 2 0 0) s m args below meth c H locs 0 0 (MQ below (Qi D (pz z) (cw (hC hs) (LC Δ) (okC Δ) d) A) args s 0 0 A) (F0 m 40 ls []) := by
  have hx := X.1.1; have hb := X.1.2.1
  intro n
  induction n with
  | zero =>
    intro σ x1 x2 x3 x4 x5 ls H locs O hl hf
    exact absurd hf (fun q => by cases q)
  | succ n ih =>
    intro σ x1 x2 x3 x4 x5 ls H locs O hl hf
    rw [C_X0_held_b40] at hf
    refine lv_iload hx hb dX0_held_40 (lv_at hl 5 rfl) ?_
    refine lv_iconst (v := 2) hx hb dX0_held_42 (by decide) ?_
    refine lv_icmp_ge (tgt := 121) hx hb dX0_held_43 (by decide) (fun c_1 => ?_) (fun c_1 => ?_)
    · replace hf := if_t c_1 hf
      obtain ⟨x4_2, ex4_2, hf⟩ := lt1_s hf
      refine lv_iinc (v := x4_2) (lv' := [(4, .int x4_2), (0, .ref ((hC hs) 0 0 0)), (1, .int x1), (2, .int x2), (3, .int x3), (5, .int x5)]) hx hb dX0_held_121 hl (k := 4) rfl (by rw [ex4_2]; rfl) (by decide) rfl (fun ls hl => ?_)
      refine lv_goto (tgt := 25) hx hb dX0_held_124 (by decide) ?_
      exact hkb25 _ _ _ _ _ ls _ _ O (lv_sub hl [1, 2, 3, 4, 0] rfl) hf
    · replace hf := if_f c_1 hf
      refine lv_aload_n hx hb dX0_held_46 rfl (lv_at hl 0 rfl) ?_
      refine x_gF X K O 6 rfl LC_0 rfl rfl in_X0 (by decide) q379 dX0_held_47 ?_
      refine x_gFN X K O 1 rfl LC_1 rfl rfl in_X1 (by decide) q297 dX0_held_50 ?_
      refine lv_iload hx hb dX0_held_53 (lv_at hl 4 rfl) ?_
      obtain ⟨c_3, hf⟩ := ck_s hf
      refine x_ald X K O 4 rfl LC_6 (by decide) rfl rfl c_3 (j := (Int32.toNatClampNeg x4)) rfl dX0_held_55 ?_
      refine lv_astore (lv' := [(6, .ref ((hC hs) 10 0 (Int32.toNatClampNeg x4))), (0, .ref ((hC hs) 0 0 0)), (1, .int x1), (2, .int x2), (3, .int x3), (4, .int x4), (5, .int x5)]) hx hb dX0_held_56 hl (by decide) rfl (fun ls hl => ?_)
      refine lv_aload hx hb dX0_held_58 (lv_at hl 0 rfl) ?_
      refine lv_iload hx hb dX0_held_60 (lv_at hl 6 rfl) ?_
      obtain ⟨σ_4, r_5, hg, hf⟩ := bn2_s hf
      refine x_calli (x_runV (As := [.int x5]) (rest := []) X K O (xct_obj (oks_b (B := 1) (b := 0) rfl (okI_lt c_3)) LC_10) rfl (m_C_X4_who (oks_b (B := 1) (b := 0) rfl (okI_lt c_3)) hg) EN_b EN_h (lw_V q1079 q1080 q1081 q122 q1082) 1 rfl hl.1 (Nat.le_of_ble_eq_true rfl) hdV_X4_who ⟨by decide, by decide⟩ ⟨Nat.le_refl _, Nat.le_refl _⟩ dX0_held_62) (fun r u H locs hp O _ => ?_)
      cases hp
      have O : XH D A s.heap (hC hs) (xct (LC Δ) (okC Δ) (hC hs) d σ_4) H locs := O
      refine lv_iload_n hx hb dX0_held_65 rfl (lv_at hl 2 rfl) ?_
      refine lv_icmp_eq (tgt := 72) hx hb dX0_held_66 (by decide) (fun c_6 => ?_) (fun c_6 => ?_)
      · replace hf := if_t c_6 hf
        refine lv_iload_n hx hb dX0_held_72 rfl (lv_at hl 4 rfl) ?_
        refine lv_iload_n hx hb dX0_held_73 rfl (lv_at hl 3 rfl) ?_
        refine lv_if_ne (tgt := 97) hx hb dX0_held_74 (by decide) (fun c_7 => ?_) (fun c_7 => ?_)
        · replace hf := if_f c_7 hf
          refine lv_aload hx hb dX0_held_97 (lv_at hl 0 rfl) ?_
          refine lv_iload hx hb dX0_held_99 (lv_at hl 6 rfl) ?_
          obtain ⟨σ_8, r_9, hg, hf⟩ := bn2_s hf
          refine x_calli (x_runV (As := [.int x5]) (rest := [.int x3]) X K O (xct_obj (oks_b (B := 1) (b := 0) rfl (okI_lt c_3)) LC_10) rfl (m_C_X4_did (oks_b (B := 1) (b := 0) rfl (okI_lt c_3)) hg) EN_b EN_h (lw_V q1062 q1063 q1064 q122 q1065) 1 rfl hl.1 (Nat.le_of_ble_eq_true rfl) hdV_X4_did ⟨by decide, by decide⟩ ⟨Nat.le_refl _, Nat.le_refl _⟩ dX0_held_101) (fun r u H locs hp O _ => ?_)
          cases hp
          have O : XH D A s.heap (hC hs) (xct (LC Δ) (okC Δ) (hC hs) d σ_8) H locs := O
          refine lv_iconst (v := 1) hx hb dX0_held_104 (by decide) ?_
          refine lv_icmp_ne (tgt := 112) hx hb dX0_held_105 (by decide) (fun c_10 => ?_) (fun c_10 => ?_)
          · replace hf := if_f c_10 hf
            refine lv_iconst (v := 0) hx hb dX0_held_112 (by decide) ?_
            exact w_C_X0_held_b113 X K hkb25 ih _ _ _ _ _ _ _ ls _ _ O (lv_sub hl [1, 2, 3, 5, 6] rfl) hf
          · replace hf := if_t c_10 hf
            refine lv_iconst (v := 1) hx hb dX0_held_108 (by decide) ?_
            refine lv_goto (tgt := 113) hx hb dX0_held_109 (by decide) ?_
            exact w_C_X0_held_b113 X K hkb25 ih _ _ _ _ _ _ _ ls _ _ O (lv_sub hl [1, 2, 3, 5, 6] rfl) hf
        · replace hf := if_t c_7 hf
          refine lv_aload hx hb dX0_held_77 (lv_at hl 0 rfl) ?_
          refine lv_iload hx hb dX0_held_79 (lv_at hl 6 rfl) ?_
          obtain ⟨σ_11, r_12, hg, hf⟩ := bn2_s hf
          refine x_calli (x_runV (As := [.int x5]) (rest := [.int x3]) X K O (xct_obj (oks_b (B := 1) (b := 0) rfl (okI_lt c_3)) LC_10) rfl (m_C_X4_did (oks_b (B := 1) (b := 0) rfl (okI_lt c_3)) hg) EN_b EN_h (lw_V q1062 q1063 q1064 q122 q1065) 1 rfl hl.1 (Nat.le_of_ble_eq_true rfl) hdV_X4_did ⟨by decide, by decide⟩ ⟨Nat.le_refl _, Nat.le_refl _⟩ dX0_held_81) (fun r u H locs hp O _ => ?_)
          cases hp
          have O : XH D A s.heap (hC hs) (xct (LC Δ) (okC Δ) (hC hs) d σ_11) H locs := O
          refine lv_iconst (v := 3) hx hb dX0_held_84 (by decide) ?_
          refine lv_irem hx hb dX0_held_85 (by decide) ?_
          refine lv_if_ne (tgt := 93) hx hb dX0_held_86 (by decide) (fun c_13 => ?_) (fun c_13 => ?_)
          · replace hf := if_f c_13 hf
            refine lv_iconst (v := 0) hx hb dX0_held_93 (by decide) ?_
            refine lv_goto (tgt := 113) hx hb dX0_held_94 (by decide) ?_
            exact w_C_X0_held_b113 X K hkb25 ih _ _ _ _ _ _ _ ls _ _ O (lv_sub hl [1, 2, 3, 5, 6] rfl) hf
          · replace hf := if_t c_13 hf
            refine lv_iconst (v := 1) hx hb dX0_held_89 (by decide) ?_
            refine lv_goto (tgt := 113) hx hb dX0_held_90 (by decide) ?_
            exact w_C_X0_held_b113 X K hkb25 ih _ _ _ _ _ _ _ ls _ _ O (lv_sub hl [1, 2, 3, 5, 6] rfl) hf
      · replace hf := if_f c_6 hf
        refine lv_goto (tgt := 115) hx hb dX0_held_69 (by decide) ?_
        exact w_C_X0_held_b115 X K hkb25 ih _ _ _ _ _ _ ls _ _ O (lv_sub hl [1, 2, 3, 4, 5, 6] rfl) hf
def C_X0_held_b25 (Δ : DT) : Nat → ST → Int32 → Int32 → Int32 → Int32 → Option (ST × Int32)
  | 0, _, _, _, _, _ => none
  | n + 1, σ, x1, x2, x3, x4 =>
    (if (gI σ 1 0 0 6) ≤ x4 then ck (okI x1 12) (bn2 (C_X3_notch Δ 0 (Int32.toNatClampNeg x1) σ x2) (fun σ_3 r_4 => some (σ_3, (r_4 - x3)))) else C_X0_held_b40 Δ (C_X0_held_b25 Δ n) FUEL σ x1 x2 x3 x4 0)
theorem w_C_X0_held_b25 {Δ : DT} (X : FX p m c meth s args RX0 cX0_held 7 (some .int)) (K : XK D d A s) {z : ST × Int32} : ∀ (n : Nat) (σ : ST) (x1 : Int32) (x2 : Int32) (x3 : Int32) (x4 : Int32) (ls : Array Slot) (H : Heap) (locs : List Loc), XH D A s.heap (hC hs) (xct (LC Δ) (okC Δ) (hC hs) d σ) H locs → lv_has ls 7 [(0, .ref ((hC hs) 0 0 0)), (1, .int x1), (2, .int x2), (3, .int x3), (4, .int x4)] → C_X0_held_b25 Δ n σ x1 x2 x3 x4 = some z → W p l e (rmD 2 0 0) s m args below meth c H locs 0 0 (MQ below (Qi D (pz z) (cw (hC hs) (LC Δ) (okC Δ) d) A) args s 0 0 A) (F0 m 25 ls []) := by
  have hx := X.1.1; have hb := X.1.2.1
  intro n
  induction n with
  | zero =>
    intro σ x1 x2 x3 x4 ls H locs O hl hf
    exact absurd hf (fun q => by cases q)
  | succ n ih =>
    intro σ x1 x2 x3 x4 ls H locs O hl hf
    rw [C_X0_held_b25] at hf
    refine lv_iload hx hb dX0_held_25 (lv_at hl 4 rfl) ?_
    refine lv_aload_n hx hb dX0_held_27 rfl (lv_at hl 0 rfl) ?_
    refine x_gF X K O 6 rfl LC_0 rfl rfl in_X0 (by decide) q379 dX0_held_28 ?_
    refine x_gIN X K O 6 rfl LC_1 rfl rfl in_X1 (by decide) q306 dX0_held_31 ?_
    refine lv_icmp_ge (tgt := 127) hx hb dX0_held_34 (by decide) (fun c_1 => ?_) (fun c_1 => ?_)
    · replace hf := if_t c_1 hf
      refine lv_aload_n hx hb dX0_held_127 rfl (lv_at hl 0 rfl) ?_
      refine x_gF X K O 6 rfl LC_0 rfl rfl in_X0 (by decide) q379 dX0_held_128 ?_
      refine x_gFN X K O 0 rfl LC_1 rfl rfl in_X1 (by decide) q295 dX0_held_131 ?_
      refine lv_iload_n hx hb dX0_held_134 rfl (lv_at hl 1 rfl) ?_
      obtain ⟨c_2, hf⟩ := ck_s hf
      refine x_ald X K O 3 rfl LC_5 (by decide) rfl rfl c_2 (j := (Int32.toNatClampNeg x1)) rfl dX0_held_135 ?_
      refine lv_iload_n hx hb dX0_held_136 rfl (lv_at hl 2 rfl) ?_
      obtain ⟨σ_3, r_4, hg, hf⟩ := bn2_s hf
      refine x_calli (x_runV (As := [.int x2]) (rest := []) X K O (xct_obj (oks_b (B := 1) (b := 0) rfl (okI_lt c_2)) LC_8) rfl (m_C_X3_notch (oks_b (B := 1) (b := 0) rfl (okI_lt c_2)) hg) EN_b EN_h (lw_V q1041 q851 q852 q121 q853) 1 rfl hl.1 (Nat.le_of_ble_eq_true rfl) hdV_X3_notch ⟨by decide, by decide⟩ ⟨Nat.le_refl _, Nat.le_refl _⟩ dX0_held_137) (fun r u H locs hp O _ => ?_)
      cases hp
      have O : XH D A s.heap (hC hs) (xct (LC Δ) (okC Δ) (hC hs) d σ_3) H locs := O
      refine lv_iload_n hx hb dX0_held_140 rfl (lv_at hl 3 rfl) ?_
      refine lv_isub hx hb dX0_held_141 ?_
      exact x_iret X O rfl _ (Option.some.inj hf).symm rfl dX0_held_142
    · replace hf := if_f c_1 hf
      refine lv_iconst (v := 0) hx hb dX0_held_37 (by decide) ?_
      refine lv_istore (lv' := [(5, .int 0), (0, .ref ((hC hs) 0 0 0)), (1, .int x1), (2, .int x2), (3, .int x3), (4, .int x4)]) hx hb dX0_held_38 hl (by decide) rfl (fun ls hl => ?_)
      exact w_C_X0_held_b40 X K ih _ _ _ _ _ _ _ ls _ _ O (lv_sub hl [1, 2, 3, 4, 5, 0] rfl) hf
def C_X0_held (Δ : DT) (σ : ST) (p1 : Int32) (p2 : Int32) : Option (ST × Int32) :=
  bn2 (C_X0_isOne Δ σ p1) (fun σ_1 r_2 => (if r_2 = 0 then some (σ_1, (-10000000)) else bn2 (C_X0_isIn Δ σ_1 p2 0 1) (fun σ_4 r_5 => (if r_5 = 0 then some (σ_4, (-10000000)) else C_X0_held_b25 Δ FUEL σ_4 p1 p2 0 0))))
theorem m_C_X0_held {l : Launch} {D : va_G} {d : Nat → ClassId} {hs : IX} {Δ : DT} {p1 : Int32} {p2 : Int32} {σ : ST} {z : ST × Int32} (hf : C_X0_held Δ σ p1 p2 = some z) : XM l D d EN yX0_held cX0_held 7 (some .int) 2 0 0 [.ref ((hC hs) 0 0 0), .int p1, .int p2] (hC hs) (xct (LC Δ) (okC Δ) (hC hs) d σ) (Qi D (pz z) (cw (hC hs) (LC Δ) (okC Δ) d)) := by
  refine XM.of (by decide +kernel) (Nat.le_of_ble_eq_true rfl) ?_
  intro p e s m below meth c A ls X _ K _ O hl
  have hl : lv_has ls 7 [(0, .ref ((hC hs) 0 0 0)), (1, .int p1), (2, .int p2)] := hl
  have hx := X.1.1; have hb := X.1.2.1
  rw [C_X0_held] at hf
  refine lv_aload_n hx hb dX0_held_0 rfl (lv_at hl 0 rfl) ?_
  refine lv_iload_n hx hb dX0_held_1 rfl (lv_at hl 1 rfl) ?_
  obtain ⟨σ_1, r_2, hg, hf⟩ := bn2_s hf
  refine x_calli (x_runV (As := [.int p1]) (rest := []) X K O (xct_obj rfl LC_0) rfl (m_C_X0_isOne hg) EN_b EN_h (lw_V q791 q793 qs23 q111 q794) 1 rfl hl.1 (Nat.le_of_ble_eq_true rfl) hdV_X0_isOne ⟨by decide, by decide⟩ ⟨Nat.le_refl _, Nat.le_refl _⟩ dX0_held_2) (fun r u H locs hp O _ => ?_)
  cases hp
  have O : XH D A s.heap (hC hs) (xct (LC Δ) (okC Δ) (hC hs) d σ_1) H locs := O
  refine lv_if_eq (tgt := 17) hx hb dX0_held_5 (by decide) (fun c_3 => ?_) (fun c_3 => ?_)
  · replace hf := if_t c_3 hf
    refine lv_ldc (v := (-10000000)) hx hb X.1.2.2.2.1 (X.1.2.2.2.2 _ q803) dX0_held_17 ?_
    exact x_iret X O rfl _ (Option.some.inj hf).symm rfl dX0_held_19
  · replace hf := if_f c_3 hf
    refine lv_iload_n hx hb dX0_held_8 rfl (lv_at hl 2 rfl) ?_
    refine lv_iconst (v := 0) hx hb dX0_held_9 (by decide) ?_
    refine lv_iconst (v := 1) hx hb dX0_held_10 (by decide) ?_
    obtain ⟨σ_4, r_5, hg, hf⟩ := bn2_s hf
    refine x_calli (x_runS (As := [.int p2, .int 0, .int 1]) (rest := []) X K O (m_C_X0_isIn hg) EN_b EN_h (lw_S q444 q445 q111 q446) 3 rfl hl.1 (Nat.le_of_ble_eq_true rfl) hdS_X0_isIn ⟨by decide, by decide⟩ ⟨Nat.le_refl _, Nat.le_refl _⟩ dX0_held_11) (fun r u H locs hp O _ => ?_)
    cases hp
    have O : XH D A s.heap (hC hs) (xct (LC Δ) (okC Δ) (hC hs) d σ_4) H locs := O
    refine lv_if_ne (tgt := 20) hx hb dX0_held_14 (by decide) (fun c_6 => ?_) (fun c_6 => ?_)
    · replace hf := if_f c_6 hf
      refine lv_iconst (v := 0) hx hb dX0_held_20 (by decide) ?_
      refine lv_istore_n (lv' := [(3, .int 0), (0, .ref ((hC hs) 0 0 0)), (1, .int p1), (2, .int p2)]) hx hb dX0_held_21 rfl hl (by decide) rfl (fun ls hl => ?_)
      refine lv_iconst (v := 0) hx hb dX0_held_22 (by decide) ?_
      refine lv_istore (lv' := [(4, .int 0), (3, .int 0), (0, .ref ((hC hs) 0 0 0)), (1, .int p1), (2, .int p2)]) hx hb dX0_held_23 hl (by decide) rfl (fun ls hl => ?_)
      exact w_C_X0_held_b25 X K _ _ _ _ _ _ ls _ _ O (lv_sub hl [2, 3, 4, 1, 0] rfl) hf
    · replace hf := if_t c_6 hf
      refine lv_ldc (v := (-10000000)) hx hb X.1.2.2.2.1 (X.1.2.2.2.2 _ q803) dX0_held_17 ?_
      exact x_iret X O rfl _ (Option.some.inj hf).symm rfl dX0_held_19
def C_X0_lend (Δ : DT) (σ : ST) (p1 : Int32) (p2 : Int32) (p3 : Int32) (p4 : Int32) : Option (ST × Int32) :=
  bn2 (C_X0_areTwo Δ σ p1 p2) (fun σ_1 r_2 => (if r_2 = 0 then some (σ_1, 0) else bn2 (C_X0_isIn Δ σ_1 p3 1 99) (fun σ_4 r_5 => (if r_5 = 0 then some (σ_4, 0) else bn2 (C_X0_isIn Δ σ_4 p4 0 9999) (fun σ_7 r_8 => (if r_8 = 0 then some (σ_7, 0) else ck (okI p1 12) (ck (okI p2 12) ((if (gI σ_7 9 0 (Int32.toNatClampNeg p1) 2) < p3 then some (σ_7, 0) else (if ((gI σ_7 9 0 (Int32.toNatClampNeg p2) 2) + p3) ≤ 9999 then lt1 (sI σ_7 9 0 (Int32.toNatClampNeg p1) 2 ((gI σ_7 9 0 (Int32.toNatClampNeg p1) 2) - p3)) (fun σ_14 => lt1 (sI σ_14 9 0 (Int32.toNatClampNeg p2) 2 ((gI σ_14 9 0 (Int32.toNatClampNeg p2) 2) + p3)) (fun σ_15 => lt1 (sI σ_15 9 0 (Int32.toNatClampNeg p1) 7 ((gI σ_15 9 0 (Int32.toNatClampNeg p1) 7) + p4)) (fun σ_16 => lt1 (sI σ_16 9 0 (Int32.toNatClampNeg p2) 7 ((gI σ_16 9 0 (Int32.toNatClampNeg p2) 7) - p4)) (fun σ_17 => some (σ_17, 1))))) else some (σ_7, 0)))))))))))
theorem m_C_X0_lend {l : Launch} {D : va_G} {d : Nat → ClassId} {hs : IX} {Δ : DT} {p1 : Int32} {p2 : Int32} {p3 : Int32} {p4 : Int32} {σ : ST} {z : ST × Int32} (hf : C_X0_lend Δ σ p1 p2 p3 p4 = some z) : XM l D d EN yX0_lend cX0_lend 7 (some .boolean) 3 0 0 [.ref ((hC hs) 0 0 0), .int p1, .int p2, .int p3, .int p4] (hC hs) (xct (LC Δ) (okC Δ) (hC hs) d σ) (Qi D (pz z) (cw (hC hs) (LC Δ) (okC Δ) d)) := by
  refine XM.of (by decide +kernel) (Nat.le_of_ble_eq_true rfl) ?_
  intro p e s m below meth c A ls X _ K _ O hl
  have hl : lv_has ls 7 [(0, .ref ((hC hs) 0 0 0)), (1, .int p1), (2, .int p2), (3, .int p3), (4, .int p4)] := hl
  have hx := X.1.1; have hb := X.1.2.1
  rw [C_X0_lend] at hf
  refine lv_aload_n hx hb dX0_lend_0 rfl (lv_at hl 0 rfl) ?_
  refine lv_iload_n hx hb dX0_lend_1 rfl (lv_at hl 1 rfl) ?_
  refine lv_iload_n hx hb dX0_lend_2 rfl (lv_at hl 2 rfl) ?_
  obtain ⟨σ_1, r_2, hg, hf⟩ := bn2_s hf
  refine x_calli (x_runV (As := [.int p1, .int p2]) (rest := []) X K O (xct_obj rfl LC_0) rfl (m_C_X0_areTwo hg) EN_b EN_h (lw_V q808 q810 qs24 q111 q811) 2 rfl hl.1 (Nat.le_of_ble_eq_true rfl) hdV_X0_areTwo ⟨by decide, by decide⟩ ⟨Nat.le_refl _, Nat.le_refl _⟩ dX0_lend_3) (fun r u H locs hp O _ => ?_)
  cases hp
  have O : XH D A s.heap (hC hs) (xct (LC Δ) (okC Δ) (hC hs) d σ_1) H locs := O
  refine lv_if_eq (tgt := 31) hx hb dX0_lend_6 (by decide) (fun c_3 => ?_) (fun c_3 => ?_)
  · replace hf := if_t c_3 hf
    refine lv_iconst (v := 0) hx hb dX0_lend_31 (by decide) ?_
    exact x_zret X O rfl rfl _ (Option.some.inj hf).symm rfl dX0_lend_32
  · replace hf := if_f c_3 hf
    refine lv_iload_n hx hb dX0_lend_9 rfl (lv_at hl 3 rfl) ?_
    refine lv_iconst (v := 1) hx hb dX0_lend_10 (by decide) ?_
    refine lv_bipush (v := 99) hx hb dX0_lend_11 (by decide) ?_
    obtain ⟨σ_4, r_5, hg, hf⟩ := bn2_s hf
    refine x_calli (x_runS (As := [.int p3, .int 1, .int 99]) (rest := []) X K O (m_C_X0_isIn hg) EN_b EN_h (lw_S q444 q445 q111 q446) 3 rfl hl.1 (Nat.le_of_ble_eq_true rfl) hdS_X0_isIn ⟨by decide, by decide⟩ ⟨Nat.le_refl _, Nat.le_refl _⟩ dX0_lend_13) (fun r u H locs hp O _ => ?_)
    cases hp
    have O : XH D A s.heap (hC hs) (xct (LC Δ) (okC Δ) (hC hs) d σ_4) H locs := O
    refine lv_if_eq (tgt := 31) hx hb dX0_lend_16 (by decide) (fun c_6 => ?_) (fun c_6 => ?_)
    · replace hf := if_t c_6 hf
      refine lv_iconst (v := 0) hx hb dX0_lend_31 (by decide) ?_
      exact x_zret X O rfl rfl _ (Option.some.inj hf).symm rfl dX0_lend_32
    · replace hf := if_f c_6 hf
      refine lv_iload hx hb dX0_lend_19 (lv_at hl 4 rfl) ?_
      refine lv_iconst (v := 0) hx hb dX0_lend_21 (by decide) ?_
      refine lv_sipush (v := 9999) hx hb dX0_lend_22 (by decide) ?_
      obtain ⟨σ_7, r_8, hg, hf⟩ := bn2_s hf
      refine x_calli (x_runS (As := [.int p4, .int 0, .int 9999]) (rest := []) X K O (m_C_X0_isIn hg) EN_b EN_h (lw_S q444 q445 q111 q446) 3 rfl hl.1 (Nat.le_of_ble_eq_true rfl) hdS_X0_isIn ⟨by decide, by decide⟩ ⟨Nat.le_refl _, Nat.le_refl _⟩ dX0_lend_25) (fun r u H locs hp O _ => ?_)
      cases hp
      have O : XH D A s.heap (hC hs) (xct (LC Δ) (okC Δ) (hC hs) d σ_7) H locs := O
      refine lv_if_ne (tgt := 33) hx hb dX0_lend_28 (by decide) (fun c_9 => ?_) (fun c_9 => ?_)
      · replace hf := if_f c_9 hf
        refine lv_aload_n hx hb dX0_lend_33 rfl (lv_at hl 0 rfl) ?_
        refine x_gF X K O 6 rfl LC_0 rfl rfl in_X0 (by decide) q379 dX0_lend_34 ?_
        refine x_gFN X K O 0 rfl LC_1 rfl rfl in_X1 (by decide) q295 dX0_lend_37 ?_
        refine lv_iload_n hx hb dX0_lend_40 rfl (lv_at hl 1 rfl) ?_
        obtain ⟨c_10, hf⟩ := ck_s hf
        refine x_ald X K O 3 rfl LC_5 (by decide) rfl rfl c_10 (j := (Int32.toNatClampNeg p1)) rfl dX0_lend_41 ?_
        refine x_gFN X K O 0 (oks_b (B := 1) (b := 0) rfl (okI_lt c_10)) LC_8 rfl rfl in_X3 (by decide) q278 dX0_lend_42 ?_
        refine lv_astore (lv' := [(5, .ref ((hC hs) 9 0 (Int32.toNatClampNeg p1))), (0, .ref ((hC hs) 0 0 0)), (1, .int p1), (2, .int p2), (3, .int p3), (4, .int p4)]) hx hb dX0_lend_45 hl (by decide) rfl (fun ls hl => ?_)
        refine lv_aload_n hx hb dX0_lend_47 rfl (lv_at hl 1 rfl) ?_
        refine x_gF X K O 6 rfl LC_0 rfl rfl in_X0 (by decide) q379 dX0_lend_48 ?_
        refine x_gFN X K O 0 rfl LC_1 rfl rfl in_X1 (by decide) q295 dX0_lend_51 ?_
        refine lv_iload_n hx hb dX0_lend_54 rfl (lv_at hl 3 rfl) ?_
        obtain ⟨c_11, hf⟩ := ck_s hf
        refine x_ald X K O 3 rfl LC_5 (by decide) rfl rfl c_11 (j := (Int32.toNatClampNeg p2)) rfl dX0_lend_55 ?_
        refine x_gFN X K O 0 (oks_b (B := 1) (b := 0) rfl (okI_lt c_11)) LC_8 rfl rfl in_X3 (by decide) q278 dX0_lend_56 ?_
        refine lv_astore (lv' := [(6, .ref ((hC hs) 9 0 (Int32.toNatClampNeg p2))), (5, .ref ((hC hs) 9 0 (Int32.toNatClampNeg p1))), (0, .ref ((hC hs) 0 0 0)), (1, .int p1), (2, .int p2), (3, .int p3), (4, .int p4)]) hx hb dX0_lend_59 hl (by decide) rfl (fun ls hl => ?_)
        refine lv_aload hx hb dX0_lend_61 (lv_at hl 1 rfl) ?_
        refine lv_iconst (v := 2) hx hb dX0_lend_63 (by decide) ?_
        refine x_ild X K O (oks_b (B := 1) (b := 0) rfl (okI_lt c_10)) LC_9 (by decide) (j := 2) rfl dX0_lend_64 ?_
        refine lv_iload_n hx hb dX0_lend_65 rfl (lv_at hl 5 rfl) ?_
        refine lv_icmp_lt (tgt := 81) hx hb dX0_lend_66 (by decide) (fun c_12 => ?_) (fun c_12 => ?_)
        · replace hf := if_t c_12 hf
          refine lv_iconst (v := 0) hx hb dX0_lend_81 (by decide) ?_
          exact x_zret X O rfl rfl _ (Option.some.inj hf).symm rfl dX0_lend_82
        · replace hf := if_f c_12 hf
          refine lv_aload hx hb dX0_lend_69 (lv_at hl 0 rfl) ?_
          refine lv_iconst (v := 2) hx hb dX0_lend_71 (by decide) ?_
          refine x_ild X K O (oks_b (B := 1) (b := 0) rfl (okI_lt c_11)) LC_9 (by decide) (j := 2) rfl dX0_lend_72 ?_
          refine lv_iload_n hx hb dX0_lend_73 rfl (lv_at hl 5 rfl) ?_
          refine lv_iadd hx hb dX0_lend_74 ?_
          refine lv_sipush (v := 9999) hx hb dX0_lend_75 (by decide) ?_
          refine lv_icmp_le (tgt := 83) hx hb dX0_lend_78 (by decide) (fun c_13 => ?_) (fun c_13 => ?_)
          · replace hf := if_t c_13 hf
            refine lv_aload hx hb dX0_lend_83 (lv_at hl 1 rfl) ?_
            refine lv_iconst (v := 2) hx hb dX0_lend_85 (by decide) ?_
            refine lv_dup2_11 hx hb dX0_lend_86 rfl rfl ?_
            refine x_ild X K O (oks_b (B := 1) (b := 0) rfl (okI_lt c_10)) LC_9 (by decide) (j := 2) rfl dX0_lend_87 ?_
            refine lv_iload_n hx hb dX0_lend_88 rfl (lv_at hl 5 rfl) ?_
            refine lv_isub hx hb dX0_lend_89 ?_
            obtain ⟨σ_14, eσ_14, hf⟩ := lt1_s hf
            refine x_ist X K O (oks_b (B := 1) (b := 0) rfl (okI_lt c_10)) LC_9 (by decide) (j := 2) rfl dX0_lend_90 (fun H locs O => ?_)
            rw [← eσ_14] at O
            refine lv_aload hx hb dX0_lend_91 (lv_at hl 0 rfl) ?_
            refine lv_iconst (v := 2) hx hb dX0_lend_93 (by decide) ?_
            refine lv_dup2_11 hx hb dX0_lend_94 rfl rfl ?_
            refine x_ild X K O (oks_b (B := 1) (b := 0) rfl (okI_lt c_11)) LC_9 (by decide) (j := 2) rfl dX0_lend_95 ?_
            refine lv_iload_n hx hb dX0_lend_96 rfl (lv_at hl 5 rfl) ?_
            refine lv_iadd hx hb dX0_lend_97 ?_
            obtain ⟨σ_15, eσ_15, hf⟩ := lt1_s hf
            refine x_ist X K O (oks_b (B := 1) (b := 0) rfl (okI_lt c_11)) LC_9 (by decide) (j := 2) rfl dX0_lend_98 (fun H locs O => ?_)
            rw [← eσ_15] at O
            refine lv_aload hx hb dX0_lend_99 (lv_at hl 1 rfl) ?_
            refine lv_bipush (v := 7) hx hb dX0_lend_101 (by decide) ?_
            refine lv_dup2_11 hx hb dX0_lend_103 rfl rfl ?_
            refine x_ild X K O (oks_b (B := 1) (b := 0) rfl (okI_lt c_10)) LC_9 (by decide) (j := 7) rfl dX0_lend_104 ?_
            refine lv_iload hx hb dX0_lend_105 (lv_at hl 6 rfl) ?_
            refine lv_iadd hx hb dX0_lend_107 ?_
            obtain ⟨σ_16, eσ_16, hf⟩ := lt1_s hf
            refine x_ist X K O (oks_b (B := 1) (b := 0) rfl (okI_lt c_10)) LC_9 (by decide) (j := 7) rfl dX0_lend_108 (fun H locs O => ?_)
            rw [← eσ_16] at O
            refine lv_aload hx hb dX0_lend_109 (lv_at hl 0 rfl) ?_
            refine lv_bipush (v := 7) hx hb dX0_lend_111 (by decide) ?_
            refine lv_dup2_11 hx hb dX0_lend_113 rfl rfl ?_
            refine x_ild X K O (oks_b (B := 1) (b := 0) rfl (okI_lt c_11)) LC_9 (by decide) (j := 7) rfl dX0_lend_114 ?_
            refine lv_iload hx hb dX0_lend_115 (lv_at hl 6 rfl) ?_
            refine lv_isub hx hb dX0_lend_117 ?_
            obtain ⟨σ_17, eσ_17, hf⟩ := lt1_s hf
            refine x_ist X K O (oks_b (B := 1) (b := 0) rfl (okI_lt c_11)) LC_9 (by decide) (j := 7) rfl dX0_lend_118 (fun H locs O => ?_)
            rw [← eσ_17] at O
            refine lv_iconst (v := 1) hx hb dX0_lend_119 (by decide) ?_
            exact x_zret X O rfl rfl _ (Option.some.inj hf).symm rfl dX0_lend_120
          · replace hf := if_f c_13 hf
            refine lv_iconst (v := 0) hx hb dX0_lend_81 (by decide) ?_
            exact x_zret X O rfl rfl _ (Option.some.inj hf).symm rfl dX0_lend_82
      · replace hf := if_t c_9 hf
        refine lv_iconst (v := 0) hx hb dX0_lend_31 (by decide) ?_
        exact x_zret X O rfl rfl _ (Option.some.inj hf).symm rfl dX0_lend_32
theorem hdV_X1_takes : yX1_takes.cls = RX1 ∧ (yX1_takes.cls ≠ "java/lang/invoke/MethodHandle" ∧ yX1_takes.cls ≠ "java/lang/invoke/VarHandle" ∧ (parseMethodDescriptor yX1_takes.desc).map (fun d => d.parameters.length) = some 1) := by decide +kernel
def C_X0_leads_b25 (Δ : DT) : Nat → ST → Int32 → Int32 → Option (ST)
  | 0, _, _, _ => none
  | n + 1, σ, x1, x3 =>
    (if x1 ≤ x3 then some σ else bn1 (C_X1_goesBy Δ 1 σ) (fun σ_2 => lt1 (x3 + 1) (fun x3_3 => (C_X0_leads_b25 Δ n) σ_2 x1 x3_3)))
theorem w_C_X0_leads_b25 {Δ : DT} (X : FX p m c meth s args RX0 cX0_leads 4 none) (K : XK D d A s) {z : ST} : ∀ (n : Nat) (σ : ST) (x1 : Int32) (x3 : Int32) (ls : Array Slot) (H : Heap) (locs : List Loc), XH D A s.heap (hC hs) (xct (LC Δ) (okC Δ) (hC hs) d σ) H locs → lv_has ls 4 [(0, .ref ((hC hs) 0 0 0)), (1, .int x1), (3, .int x3)] → C_X0_leads_b25 Δ n σ x1 x3 = some z → W p l e (rmD 848 0 0) s m args below meth c H locs 0 0 (MQ below (Qv D (pu z) (cw (hC hs) (LC Δ) (okC Δ) d) A) args s 0 0 A) (F0 m 25 ls []) := by
  have hx := X.1.1; have hb := X.1.2.1
  intro n
  induction n with
  | zero =>
    intro σ x1 x3 ls H locs O hl hf
    exact absurd hf (fun q => by cases q)
  | succ n ih =>
    intro σ x1 x3 ls H locs O hl hf
    rw [C_X0_leads_b25] at hf
    refine lv_iload_n hx hb dX0_leads_25 rfl (lv_at hl 2 rfl) ?_
    refine lv_iload_n hx hb dX0_leads_26 rfl (lv_at hl 1 rfl) ?_
    refine lv_icmp_ge (tgt := 43) hx hb dX0_leads_27 (by decide) (fun c_1 => ?_) (fun c_1 => ?_)
    · replace hf := if_t c_1 hf
      exact x_vret X O rfl _ (Option.some.inj hf).symm rfl dX0_leads_43
    · replace hf := if_f c_1 hf
      refine lv_aload_n hx hb dX0_leads_30 rfl (lv_at hl 0 rfl) ?_
      refine x_gF X K O 7 rfl LC_0 rfl rfl in_X0 (by decide) q381 dX0_leads_31 ?_
      obtain ⟨σ_2, hg, hf⟩ := bn1_s hf
      refine x_callv (x_runV (As := []) (rest := []) X K O (xct_obj rfl LC_1) rfl (m_C_X1_goesBy rfl hg) EN_b EN_h (lw_V q920 q921 q922 q119 q923) 0 rfl hl.1 (Nat.le_of_ble_eq_true rfl) hdV_X1_goesBy ⟨by decide, by decide⟩ ⟨Nat.le_refl _, Nat.le_refl _⟩ dX0_leads_34) (fun u H locs hp O _ => ?_)
      cases hp
      have O : XH D A s.heap (hC hs) (xct (LC Δ) (okC Δ) (hC hs) d σ_2) H locs := O
      obtain ⟨x3_3, ex3_3, hf⟩ := lt1_s hf
      refine lv_iinc (v := x3_3) (lv' := [(3, .int x3_3), (0, .ref ((hC hs) 0 0 0)), (1, .int x1)]) hx hb dX0_leads_37 hl (k := 2) rfl (by rw [ex3_3]; rfl) (by decide) rfl (fun ls hl => ?_)
      refine lv_goto (tgt := 25) hx hb dX0_leads_40 (by decide) ?_
      exact ih _ _ _ ls _ _ O (lv_sub hl [1, 2, 0] rfl) hf
def C_X0_leads (Δ : DT) (σ : ST) (p1 : Int32) (p2 : Int32) : Option (ST) :=
  bn1 (C_X1_takes Δ 1 0 σ) (fun σ_1 => lt1 (sI σ_1 4 1 0 9 p2) (fun σ_2 => C_X0_leads_b25 Δ FUEL σ_2 p1 0))
theorem m_C_X0_leads {l : Launch} {D : va_G} {d : Nat → ClassId} {hs : IX} {Δ : DT} {p1 : Int32} {p2 : Int32} {σ : ST} {z : ST} (hf : C_X0_leads Δ σ p1 p2 = some z) : XM l D d EN yX0_leads cX0_leads 4 none 848 0 0 [.ref ((hC hs) 0 0 0), .int p1, .int p2] (hC hs) (xct (LC Δ) (okC Δ) (hC hs) d σ) (Qv D (pu z) (cw (hC hs) (LC Δ) (okC Δ) d)) := by
  refine XM.of (by decide +kernel) (Nat.le_of_ble_eq_true rfl) ?_
  intro p e s m below meth c A ls X _ K _ O hl
  have hl : lv_has ls 4 [(0, .ref ((hC hs) 0 0 0)), (1, .int p1), (2, .int p2)] := hl
  have hx := X.1.1; have hb := X.1.2.1
  rw [C_X0_leads] at hf
  refine lv_aload_n hx hb dX0_leads_0 rfl (lv_at hl 0 rfl) ?_
  refine x_gF X K O 7 rfl LC_0 rfl rfl in_X0 (by decide) q381 dX0_leads_1 ?_
  refine lv_aload_n hx hb dX0_leads_4 rfl (lv_at hl 0 rfl) ?_
  refine x_gF X K O 6 rfl LC_0 rfl rfl in_X0 (by decide) q379 dX0_leads_5 ?_
  obtain ⟨σ_1, hg, hf⟩ := bn1_s hf
  refine x_callr (x_runV (As := [.ref ((hC hs) 1 0 0)]) (rest := []) X K O (xct_obj rfl LC_1) rfl (m_C_X1_takes rfl rfl hg) EN_b EN_h (lw_V q1099 q1100 q1101 q119 q1102) 1 rfl hl.1 (Nat.le_of_ble_eq_true rfl) hdV_X1_takes ⟨by decide, by decide⟩ ⟨Nat.le_refl _, Nat.le_refl _⟩ dX0_leads_8) (fun r u H locs hp O _ => ?_)
  obtain ⟨rfl, rfl⟩ := hp
  have O : XH D A s.heap (hC hs) (xct (LC Δ) (okC Δ) (hC hs) d σ_1) H locs := O
  refine lv_pop hx hb dX0_leads_11 rfl ?_
  refine lv_aload_n hx hb dX0_leads_12 rfl (lv_at hl 0 rfl) ?_
  refine x_gF X K O 7 rfl LC_0 rfl rfl in_X0 (by decide) q381 dX0_leads_13 ?_
  refine x_gFN X K O 2 rfl LC_1 rfl rfl in_X1 (by decide) q300 dX0_leads_16 ?_
  refine lv_bipush (v := 9) hx hb dX0_leads_19 (by decide) ?_
  refine lv_iload_n hx hb dX0_leads_21 rfl (lv_at hl 2 rfl) ?_
  obtain ⟨σ_2, eσ_2, hf⟩ := lt1_s hf
  refine x_ist X K O rfl LC_4 (by decide) (j := 9) rfl dX0_leads_22 (fun H locs O => ?_)
  rw [← eσ_2] at O
  refine lv_iconst (v := 0) hx hb dX0_leads_23 (by decide) ?_
  refine lv_istore_n (lv' := [(3, .int 0), (0, .ref ((hC hs) 0 0 0)), (1, .int p1), (2, .int p2)]) hx hb dX0_leads_24 rfl hl (by decide) rfl (fun ls hl => ?_)
  exact w_C_X0_leads_b25 X K _ _ _ _ ls _ _ O (lv_sub hl [1, 2, 0] rfl) hf
theorem hdV_X0_leads : yX0_leads.cls = RX0 ∧ (yX0_leads.cls ≠ "java/lang/invoke/MethodHandle" ∧ yX0_leads.cls ≠ "java/lang/invoke/VarHandle" ∧ (parseMethodDescriptor yX0_leads.desc).map (fun d => d.parameters.length) = some 2) := by decide +kernel
theorem hdV_X1_sum : yX1_sum.cls = RX1 ∧ (yX1_sum.cls ≠ "java/lang/invoke/MethodHandle" ∧ yX1_sum.cls ≠ "java/lang/invoke/VarHandle" ∧ (parseMethodDescriptor yX1_sum.desc).map (fun d => d.parameters.length) = some 1) := by decide +kernel
def C_X0_came (Δ : DT) (σ : ST) (p1 : Int32) (p2 : Int32) : Option (ST × Int32) :=
  bn1 (C_X0_leads Δ σ p1 p2) (fun σ_1 => bn2 (C_X1_sum Δ 1 σ_1 7) (fun σ_2 r_3 => bn2 (C_X1_sum Δ 0 σ_2 7) (fun σ_4 r_5 => some (σ_4, (r_3 - r_5)))))
theorem m_C_X0_came {l : Launch} {D : va_G} {d : Nat → ClassId} {hs : IX} {Δ : DT} {p1 : Int32} {p2 : Int32} {σ : ST} {z : ST × Int32} (hf : C_X0_came Δ σ p1 p2 = some z) : XM l D d EN yX0_came cX0_came 3 (some .int) 849 0 0 [.ref ((hC hs) 0 0 0), .int p1, .int p2] (hC hs) (xct (LC Δ) (okC Δ) (hC hs) d σ) (Qi D (pz z) (cw (hC hs) (LC Δ) (okC Δ) d)) := by
  refine XM.of (by decide +kernel) (Nat.le_of_ble_eq_true rfl) ?_
  intro p e s m below meth c A ls X _ K _ O hl
  have hl : lv_has ls 3 [(0, .ref ((hC hs) 0 0 0)), (1, .int p1), (2, .int p2)] := hl
  have hx := X.1.1; have hb := X.1.2.1
  rw [C_X0_came] at hf
  refine lv_aload_n hx hb dX0_came_0 rfl (lv_at hl 0 rfl) ?_
  refine lv_iload_n hx hb dX0_came_1 rfl (lv_at hl 1 rfl) ?_
  refine lv_iload_n hx hb dX0_came_2 rfl (lv_at hl 2 rfl) ?_
  obtain ⟨σ_1, hg, hf⟩ := bn1_s hf
  refine x_callv (x_runV (As := [.int p1, .int p2]) (rest := []) X K O (xct_obj rfl LC_0) rfl (m_C_X0_leads hg) EN_b EN_h (lw_V q1095 q1097 qs44 q111 q1098) 2 rfl hl.1 (Nat.le_of_ble_eq_true rfl) hdV_X0_leads ⟨by decide, by decide⟩ ⟨Nat.le_refl _, Nat.le_refl _⟩ dX0_came_3) (fun u H locs hp O _ => ?_)
  cases hp
  have O : XH D A s.heap (hC hs) (xct (LC Δ) (okC Δ) (hC hs) d σ_1) H locs := O
  refine lv_aload_n hx hb dX0_came_6 rfl (lv_at hl 0 rfl) ?_
  refine x_gF X K O 7 rfl LC_0 rfl rfl in_X0 (by decide) q381 dX0_came_7 ?_
  refine lv_bipush (v := 7) hx hb dX0_came_10 (by decide) ?_
  obtain ⟨σ_2, r_3, hg, hf⟩ := bn2_s hf
  refine x_calli (x_runV (As := [.int 7]) (rest := []) X K O (xct_obj rfl LC_1) rfl (m_C_X1_sum rfl hg) EN_b EN_h (lw_V q1111 q1112 q1113 q119 q1114) 1 rfl hl.1 (Nat.le_of_ble_eq_true rfl) hdV_X1_sum ⟨by decide, by decide⟩ ⟨Nat.le_refl _, Nat.le_refl _⟩ dX0_came_12) (fun r u H locs hp O _ => ?_)
  cases hp
  have O : XH D A s.heap (hC hs) (xct (LC Δ) (okC Δ) (hC hs) d σ_2) H locs := O
  refine lv_aload_n hx hb dX0_came_15 rfl (lv_at hl 0 rfl) ?_
  refine x_gF X K O 6 rfl LC_0 rfl rfl in_X0 (by decide) q379 dX0_came_16 ?_
  refine lv_bipush (v := 7) hx hb dX0_came_19 (by decide) ?_
  obtain ⟨σ_4, r_5, hg, hf⟩ := bn2_s hf
  refine x_calli (x_runV (As := [.int 7]) (rest := [.int r_3]) X K O (xct_obj rfl LC_1) rfl (m_C_X1_sum rfl hg) EN_b EN_h (lw_V q1111 q1112 q1113 q119 q1114) 1 rfl hl.1 (Nat.le_of_ble_eq_true rfl) hdV_X1_sum ⟨by decide, by decide⟩ ⟨Nat.le_refl _, Nat.le_refl _⟩ dX0_came_21) (fun r u H locs hp O _ => ?_)
  cases hp
  have O : XH D A s.heap (hC hs) (xct (LC Δ) (okC Δ) (hC hs) d σ_4) H locs := O
  refine lv_isub hx hb dX0_came_24 ?_
  exact x_iret X O rfl _ (Option.some.inj hf).symm rfl dX0_came_25
theorem hdV_X0_came : yX0_came.cls = RX0 ∧ (yX0_came.cls ≠ "java/lang/invoke/MethodHandle" ∧ yX0_came.cls ≠ "java/lang/invoke/VarHandle" ∧ (parseMethodDescriptor yX0_came.desc).map (fun d => d.parameters.length) = some 2) := by decide +kernel
theorem hdV_X1_broken : yX1_broken.cls = RX1 ∧ (yX1_broken.cls ≠ "java/lang/invoke/MethodHandle" ∧ yX1_broken.cls ≠ "java/lang/invoke/VarHandle" ∧ (parseMethodDescriptor yX1_broken.desc).map (fun d => d.parameters.length) = some 0) := by decide +kernel
def C_X0_thought_b36 (Δ : DT) (σ : ST) (x1 : Int32) (x2 : Int32) (x3 : Int32) : Option (ST × Int32) :=
  (if x2 = (-1) then bn2 (C_X0_came Δ σ x1 1) (fun σ_18 r_19 => bn2 (C_X0_came Δ σ_18 x1 0) (fun σ_20 r_21 => (if r_19 ≤ r_21 then some (σ_20, 0) else some (σ_20, 1)))) else bn1 (C_X0_leads Δ σ x1 x2) (fun σ_2 => (if x3 = 0 then bn2 (C_X1_sum Δ 1 σ_2 7) (fun σ_4 r_5 => bn2 (C_X1_sum Δ 0 σ_4 7) (fun σ_6 r_7 => some (σ_6, (r_5 - r_7)))) else if x3 = 1 then some (σ_2, ((gI σ_2 1 1 0 6) - (gI σ_2 1 0 0 6))) else if x3 = 2 then bn2 (C_X1_broken Δ 1 σ_2) (fun σ_10 r_11 => bn2 (C_X1_broken Δ 0 σ_10) (fun σ_12 r_13 => some (σ_12, (r_11 - r_13)))) else bn2 (C_X1_sum Δ 1 σ_2 8) (fun σ_14 r_15 => bn2 (C_X1_sum Δ 0 σ_14 8) (fun σ_16 r_17 => some (σ_16, (r_15 - r_17)))))))
theorem w_C_X0_thought_b36 {Δ : DT} (X : FX p m c meth s args RX0 cX0_thought 4 (some .int)) (K : XK D d A s) {z : ST × Int32} (σ : ST) (x1 : Int32) (x2 : Int32) (x3 : Int32) (ls : Array Slot) (H : Heap) (locs : List Loc) (O : XH D A s.heap (hC hs) (xct (LC Δ) (okC Δ) (hC hs) d σ) H locs) (hl : lv_has ls 4 [(0, .ref ((hC hs) 0 0 0)), (1, .int x1), (2, .int x2), (3, .int x3)]) (hf : C_X0_thought_b36 Δ σ x1 x2 x3 = some z) : W p l e (rmD 850 0 0) s m args below meth c H locs 0 0 (MQ below (Qi D (pz z) (cw (hC hs) (LC Δ) (okC Δ) d) A) args s 0 0 A) (F0 m 36 ls []) := by
  have hx := X.1.1; have hb := X.1.2.1
  rw [C_X0_thought_b36] at hf
  refine lv_iload_n hx hb dX0_thought_36 rfl (lv_at hl 2 rfl) ?_
  refine lv_iconst (v := (-1)) hx hb dX0_thought_37 (by decide) ?_
  refine lv_icmp_ne (tgt := 62) hx hb dX0_thought_38 (by decide) (fun c_1 => ?_) (fun c_1 => ?_)
  · replace hf := if_f c_1 hf
    refine lv_aload_n hx hb dX0_thought_62 rfl (lv_at hl 0 rfl) ?_
    refine lv_iload_n hx hb dX0_thought_63 rfl (lv_at hl 1 rfl) ?_
    refine lv_iload_n hx hb dX0_thought_64 rfl (lv_at hl 2 rfl) ?_
    obtain ⟨σ_2, hg, hf⟩ := bn1_s hf
    refine x_callv (x_runV (As := [.int x1, .int x2]) (rest := []) X K O (xct_obj rfl LC_0) rfl (m_C_X0_leads hg) EN_b EN_h (lw_V q1095 q1097 qs44 q111 q1098) 2 rfl hl.1 (Nat.le_of_ble_eq_true rfl) hdV_X0_leads ⟨by decide, by decide⟩ ⟨Nat.le_refl _, Nat.le_refl _⟩ dX0_thought_65) (fun u H locs hp O _ => ?_)
    cases hp
    have O : XH D A s.heap (hC hs) (xct (LC Δ) (okC Δ) (hC hs) d σ_2) H locs := O
    refine lv_iload_n hx hb dX0_thought_68 rfl (lv_at hl 3 rfl) ?_
    by_cases c_3 : x3 = 0
    · replace hf := if_t c_3 hf
      have h9 : (Int32.toInt x3) = 0 := by rw [c_3]; rfl
      refine lv_tableIn (tgt := 96) hx hb dX0_thought_69 (by rw [h9]; decide) (by rw [h9]; decide) (by rw [h9]; rfl) (by decide) ?_
      refine lv_aload_n hx hb dX0_thought_96 rfl (lv_at hl 0 rfl) ?_
      refine x_gF X K O 7 rfl LC_0 rfl rfl in_X0 (by decide) q381 dX0_thought_97 ?_
      refine lv_bipush (v := 7) hx hb dX0_thought_100 (by decide) ?_
      obtain ⟨σ_4, r_5, hg, hf⟩ := bn2_s hf
      refine x_calli (x_runV (As := [.int 7]) (rest := []) X K O (xct_obj rfl LC_1) rfl (m_C_X1_sum rfl hg) EN_b EN_h (lw_V q1111 q1112 q1113 q119 q1114) 1 rfl hl.1 (Nat.le_of_ble_eq_true rfl) hdV_X1_sum ⟨by decide, by decide⟩ ⟨Nat.le_refl _, Nat.le_refl _⟩ dX0_thought_102) (fun r u H locs hp O _ => ?_)
      cases hp
      have O : XH D A s.heap (hC hs) (xct (LC Δ) (okC Δ) (hC hs) d σ_4) H locs := O
      refine lv_aload_n hx hb dX0_thought_105 rfl (lv_at hl 0 rfl) ?_
      refine x_gF X K O 6 rfl LC_0 rfl rfl in_X0 (by decide) q379 dX0_thought_106 ?_
      refine lv_bipush (v := 7) hx hb dX0_thought_109 (by decide) ?_
      obtain ⟨σ_6, r_7, hg, hf⟩ := bn2_s hf
      refine x_calli (x_runV (As := [.int 7]) (rest := [.int r_5]) X K O (xct_obj rfl LC_1) rfl (m_C_X1_sum rfl hg) EN_b EN_h (lw_V q1111 q1112 q1113 q119 q1114) 1 rfl hl.1 (Nat.le_of_ble_eq_true rfl) hdV_X1_sum ⟨by decide, by decide⟩ ⟨Nat.le_refl _, Nat.le_refl _⟩ dX0_thought_111) (fun r u H locs hp O _ => ?_)
      cases hp
      have O : XH D A s.heap (hC hs) (xct (LC Δ) (okC Δ) (hC hs) d σ_6) H locs := O
      refine lv_isub hx hb dX0_thought_114 ?_
      exact x_iret X O rfl _ (Option.some.inj hf).symm rfl dX0_thought_115
    · replace hf := if_f c_3 hf
      by_cases c_8 : x3 = 1
      · replace hf := if_t c_8 hf
        have h9 : (Int32.toInt x3) = 1 := by rw [c_8]; rfl
        refine lv_tableIn (tgt := 116) hx hb dX0_thought_69 (by rw [h9]; decide) (by rw [h9]; decide) (by rw [h9]; rfl) (by decide) ?_
        refine lv_aload_n hx hb dX0_thought_116 rfl (lv_at hl 0 rfl) ?_
        refine x_gF X K O 7 rfl LC_0 rfl rfl in_X0 (by decide) q381 dX0_thought_117 ?_
        refine x_gIN X K O 6 rfl LC_1 rfl rfl in_X1 (by decide) q306 dX0_thought_120 ?_
        refine lv_aload_n hx hb dX0_thought_123 rfl (lv_at hl 0 rfl) ?_
        refine x_gF X K O 6 rfl LC_0 rfl rfl in_X0 (by decide) q379 dX0_thought_124 ?_
        refine x_gIN X K O 6 rfl LC_1 rfl rfl in_X1 (by decide) q306 dX0_thought_127 ?_
        refine lv_isub hx hb dX0_thought_130 ?_
        exact x_iret X O rfl _ (Option.some.inj hf).symm rfl dX0_thought_131
      · replace hf := if_f c_8 hf
        by_cases c_9 : x3 = 2
        · replace hf := if_t c_9 hf
          have h9 : (Int32.toInt x3) = 2 := by rw [c_9]; rfl
          refine lv_tableIn (tgt := 132) hx hb dX0_thought_69 (by rw [h9]; decide) (by rw [h9]; decide) (by rw [h9]; rfl) (by decide) ?_
          refine lv_aload_n hx hb dX0_thought_132 rfl (lv_at hl 0 rfl) ?_
          refine x_gF X K O 7 rfl LC_0 rfl rfl in_X0 (by decide) q381 dX0_thought_133 ?_
          obtain ⟨σ_10, r_11, hg, hf⟩ := bn2_s hf
          refine x_calli (x_runV (As := []) (rest := []) X K O (xct_obj rfl LC_1) rfl (m_C_X1_broken rfl hg) EN_b EN_h (lw_V q1115 q1116 q1117 q119 q1118) 0 rfl hl.1 (Nat.le_of_ble_eq_true rfl) hdV_X1_broken ⟨by decide, by decide⟩ ⟨Nat.le_refl _, Nat.le_refl _⟩ dX0_thought_136) (fun r u H locs hp O _ => ?_)
          cases hp
          have O : XH D A s.heap (hC hs) (xct (LC Δ) (okC Δ) (hC hs) d σ_10) H locs := O
          refine lv_aload_n hx hb dX0_thought_139 rfl (lv_at hl 0 rfl) ?_
          refine x_gF X K O 6 rfl LC_0 rfl rfl in_X0 (by decide) q379 dX0_thought_140 ?_
          obtain ⟨σ_12, r_13, hg, hf⟩ := bn2_s hf
          refine x_calli (x_runV (As := []) (rest := [.int r_11]) X K O (xct_obj rfl LC_1) rfl (m_C_X1_broken rfl hg) EN_b EN_h (lw_V q1115 q1116 q1117 q119 q1118) 0 rfl hl.1 (Nat.le_of_ble_eq_true rfl) hdV_X1_broken ⟨by decide, by decide⟩ ⟨Nat.le_refl _, Nat.le_refl _⟩ dX0_thought_143) (fun r u H locs hp O _ => ?_)
          cases hp
          have O : XH D A s.heap (hC hs) (xct (LC Δ) (okC Δ) (hC hs) d σ_12) H locs := O
          refine lv_isub hx hb dX0_thought_146 ?_
          exact x_iret X O rfl _ (Option.some.inj hf).symm rfl dX0_thought_147
        · replace hf := if_f c_9 hf
          refine lv_tableOut (tgt := 148) hx hb dX0_thought_69 (by have h8 := fun k (q : (Int32.toInt x3) = Int32.toInt k) => Int32.toInt_inj.mp q; have q0 : ¬ (Int32.toInt x3) = 0 := fun q => c_3 (h8 0 q); have q1 : ¬ (Int32.toInt x3) = 1 := fun q => c_8 (h8 1 q); have q2 : ¬ (Int32.toInt x3) = 2 := fun q => c_9 (h8 2 q); omega) (by decide) ?_
          refine lv_aload_n hx hb dX0_thought_148 rfl (lv_at hl 0 rfl) ?_
          refine x_gF X K O 7 rfl LC_0 rfl rfl in_X0 (by decide) q381 dX0_thought_149 ?_
          refine lv_bipush (v := 8) hx hb dX0_thought_152 (by decide) ?_
          obtain ⟨σ_14, r_15, hg, hf⟩ := bn2_s hf
          refine x_calli (x_runV (As := [.int 8]) (rest := []) X K O (xct_obj rfl LC_1) rfl (m_C_X1_sum rfl hg) EN_b EN_h (lw_V q1111 q1112 q1113 q119 q1114) 1 rfl hl.1 (Nat.le_of_ble_eq_true rfl) hdV_X1_sum ⟨by decide, by decide⟩ ⟨Nat.le_refl _, Nat.le_refl _⟩ dX0_thought_154) (fun r u H locs hp O _ => ?_)
          cases hp
          have O : XH D A s.heap (hC hs) (xct (LC Δ) (okC Δ) (hC hs) d σ_14) H locs := O
          refine lv_aload_n hx hb dX0_thought_157 rfl (lv_at hl 0 rfl) ?_
          refine x_gF X K O 6 rfl LC_0 rfl rfl in_X0 (by decide) q379 dX0_thought_158 ?_
          refine lv_bipush (v := 8) hx hb dX0_thought_161 (by decide) ?_
          obtain ⟨σ_16, r_17, hg, hf⟩ := bn2_s hf
          refine x_calli (x_runV (As := [.int 8]) (rest := [.int r_15]) X K O (xct_obj rfl LC_1) rfl (m_C_X1_sum rfl hg) EN_b EN_h (lw_V q1111 q1112 q1113 q119 q1114) 1 rfl hl.1 (Nat.le_of_ble_eq_true rfl) hdV_X1_sum ⟨by decide, by decide⟩ ⟨Nat.le_refl _, Nat.le_refl _⟩ dX0_thought_163) (fun r u H locs hp O _ => ?_)
          cases hp
          have O : XH D A s.heap (hC hs) (xct (LC Δ) (okC Δ) (hC hs) d σ_16) H locs := O
          refine lv_isub hx hb dX0_thought_166 ?_
          exact x_iret X O rfl _ (Option.some.inj hf).symm rfl dX0_thought_167
  · replace hf := if_t c_1 hf
    refine lv_aload_n hx hb dX0_thought_41 rfl (lv_at hl 0 rfl) ?_
    refine lv_iload_n hx hb dX0_thought_42 rfl (lv_at hl 1 rfl) ?_
    refine lv_iconst (v := 1) hx hb dX0_thought_43 (by decide) ?_
    obtain ⟨σ_18, r_19, hg, hf⟩ := bn2_s hf
    refine x_calli (x_runV (As := [.int x1, .int 1]) (rest := []) X K O (xct_obj rfl LC_0) rfl (m_C_X0_came hg) EN_b EN_h (lw_V q1091 q1093 qs43 q111 q1094) 2 rfl hl.1 (Nat.le_of_ble_eq_true rfl) hdV_X0_came ⟨by decide, by decide⟩ ⟨Nat.le_refl _, Nat.le_refl _⟩ dX0_thought_44) (fun r u H locs hp O _ => ?_)
    cases hp
    have O : XH D A s.heap (hC hs) (xct (LC Δ) (okC Δ) (hC hs) d σ_18) H locs := O
    refine lv_aload_n hx hb dX0_thought_47 rfl (lv_at hl 0 rfl) ?_
    refine lv_iload_n hx hb dX0_thought_48 rfl (lv_at hl 1 rfl) ?_
    refine lv_iconst (v := 0) hx hb dX0_thought_49 (by decide) ?_
    obtain ⟨σ_20, r_21, hg, hf⟩ := bn2_s hf
    refine x_calli (x_runV (As := [.int x1, .int 0]) (rest := [.int r_19]) X K O (xct_obj rfl LC_0) rfl (m_C_X0_came hg) EN_b EN_h (lw_V q1091 q1093 qs43 q111 q1094) 2 rfl hl.1 (Nat.le_of_ble_eq_true rfl) hdV_X0_came ⟨by decide, by decide⟩ ⟨Nat.le_refl _, Nat.le_refl _⟩ dX0_thought_50) (fun r u H locs hp O _ => ?_)
    cases hp
    have O : XH D A s.heap (hC hs) (xct (LC Δ) (okC Δ) (hC hs) d σ_20) H locs := O
    refine lv_icmp_le (tgt := 60) hx hb dX0_thought_53 (by decide) (fun c_22 => ?_) (fun c_22 => ?_)
    · replace hf := if_t c_22 hf
      refine lv_iconst (v := 0) hx hb dX0_thought_60 (by decide) ?_
      exact x_iret X O rfl _ (Option.some.inj hf).symm rfl dX0_thought_61
    · replace hf := if_f c_22 hf
      refine lv_iconst (v := 1) hx hb dX0_thought_56 (by decide) ?_
      refine lv_goto (tgt := 61) hx hb dX0_thought_57 (by decide) ?_
      exact x_iret X O rfl _ (Option.some.inj hf).symm rfl dX0_thought_61
def C_X0_thought (Δ : DT) (σ : ST) (p1 : Int32) (p2 : Int32) (p3 : Int32) : Option (ST × Int32) :=
  bn2 (C_X0_isIn Δ σ p1 1 30) (fun σ_1 r_2 => (if r_2 = 0 then some (σ_1, (-10000000)) else bn2 (C_X0_isIn Δ σ_1 p2 (-1) 1) (fun σ_4 r_5 => (if r_5 = 0 then some (σ_4, (-10000000)) else (if p2 = (-1) then C_X0_thought_b36 Δ σ_4 p1 p2 p3 else bn2 (C_X0_isIn Δ σ_4 p3 0 3) (fun σ_8 r_9 => (if r_9 = 0 then some (σ_8, (-10000000)) else C_X0_thought_b36 Δ σ_8 p1 p2 p3)))))))
theorem m_C_X0_thought {l : Launch} {D : va_G} {d : Nat → ClassId} {hs : IX} {Δ : DT} {p1 : Int32} {p2 : Int32} {p3 : Int32} {σ : ST} {z : ST × Int32} (hf : C_X0_thought Δ σ p1 p2 p3 = some z) : XM l D d EN yX0_thought cX0_thought 4 (some .int) 850 0 0 [.ref ((hC hs) 0 0 0), .int p1, .int p2, .int p3] (hC hs) (xct (LC Δ) (okC Δ) (hC hs) d σ) (Qi D (pz z) (cw (hC hs) (LC Δ) (okC Δ) d)) := by
  refine XM.of (by decide +kernel) (Nat.le_of_ble_eq_true rfl) ?_
  intro p e s m below meth c A ls X _ K _ O hl
  have hl : lv_has ls 4 [(0, .ref ((hC hs) 0 0 0)), (1, .int p1), (2, .int p2), (3, .int p3)] := hl
  have hx := X.1.1; have hb := X.1.2.1
  rw [C_X0_thought] at hf
  refine lv_iload_n hx hb dX0_thought_0 rfl (lv_at hl 1 rfl) ?_
  refine lv_iconst (v := 1) hx hb dX0_thought_1 (by decide) ?_
  refine lv_bipush (v := 30) hx hb dX0_thought_2 (by decide) ?_
  obtain ⟨σ_1, r_2, hg, hf⟩ := bn2_s hf
  refine x_calli (x_runS (As := [.int p1, .int 1, .int 30]) (rest := []) X K O (m_C_X0_isIn hg) EN_b EN_h (lw_S q444 q445 q111 q446) 3 rfl hl.1 (Nat.le_of_ble_eq_true rfl) hdS_X0_isIn ⟨by decide, by decide⟩ ⟨Nat.le_refl _, Nat.le_refl _⟩ dX0_thought_4) (fun r u H locs hp O _ => ?_)
  cases hp
  have O : XH D A s.heap (hC hs) (xct (LC Δ) (okC Δ) (hC hs) d σ_1) H locs := O
  refine lv_if_eq (tgt := 33) hx hb dX0_thought_7 (by decide) (fun c_3 => ?_) (fun c_3 => ?_)
  · replace hf := if_t c_3 hf
    refine lv_ldc (v := (-10000000)) hx hb X.1.2.2.2.1 (X.1.2.2.2.2 _ q803) dX0_thought_33 ?_
    exact x_iret X O rfl _ (Option.some.inj hf).symm rfl dX0_thought_35
  · replace hf := if_f c_3 hf
    refine lv_iload_n hx hb dX0_thought_10 rfl (lv_at hl 2 rfl) ?_
    refine lv_iconst (v := (-1)) hx hb dX0_thought_11 (by decide) ?_
    refine lv_iconst (v := 1) hx hb dX0_thought_12 (by decide) ?_
    obtain ⟨σ_4, r_5, hg, hf⟩ := bn2_s hf
    refine x_calli (x_runS (As := [.int p2, .int (-1), .int 1]) (rest := []) X K O (m_C_X0_isIn hg) EN_b EN_h (lw_S q444 q445 q111 q446) 3 rfl hl.1 (Nat.le_of_ble_eq_true rfl) hdS_X0_isIn ⟨by decide, by decide⟩ ⟨Nat.le_refl _, Nat.le_refl _⟩ dX0_thought_13) (fun r u H locs hp O _ => ?_)
    cases hp
    have O : XH D A s.heap (hC hs) (xct (LC Δ) (okC Δ) (hC hs) d σ_4) H locs := O
    refine lv_if_eq (tgt := 33) hx hb dX0_thought_16 (by decide) (fun c_6 => ?_) (fun c_6 => ?_)
    · replace hf := if_t c_6 hf
      refine lv_ldc (v := (-10000000)) hx hb X.1.2.2.2.1 (X.1.2.2.2.2 _ q803) dX0_thought_33 ?_
      exact x_iret X O rfl _ (Option.some.inj hf).symm rfl dX0_thought_35
    · replace hf := if_f c_6 hf
      refine lv_iload_n hx hb dX0_thought_19 rfl (lv_at hl 2 rfl) ?_
      refine lv_iconst (v := (-1)) hx hb dX0_thought_20 (by decide) ?_
      refine lv_icmp_eq (tgt := 36) hx hb dX0_thought_21 (by decide) (fun c_7 => ?_) (fun c_7 => ?_)
      · replace hf := if_t c_7 hf
        exact w_C_X0_thought_b36 X K _ _ _ _ ls _ _ O (lv_sub hl [0, 1, 2, 3] rfl) hf
      · replace hf := if_f c_7 hf
        refine lv_iload_n hx hb dX0_thought_24 rfl (lv_at hl 3 rfl) ?_
        refine lv_iconst (v := 0) hx hb dX0_thought_25 (by decide) ?_
        refine lv_iconst (v := 3) hx hb dX0_thought_26 (by decide) ?_
        obtain ⟨σ_8, r_9, hg, hf⟩ := bn2_s hf
        refine x_calli (x_runS (As := [.int p3, .int 0, .int 3]) (rest := []) X K O (m_C_X0_isIn hg) EN_b EN_h (lw_S q444 q445 q111 q446) 3 rfl hl.1 (Nat.le_of_ble_eq_true rfl) hdS_X0_isIn ⟨by decide, by decide⟩ ⟨Nat.le_refl _, Nat.le_refl _⟩ dX0_thought_27) (fun r u H locs hp O _ => ?_)
        cases hp
        have O : XH D A s.heap (hC hs) (xct (LC Δ) (okC Δ) (hC hs) d σ_8) H locs := O
        refine lv_if_ne (tgt := 36) hx hb dX0_thought_30 (by decide) (fun c_10 => ?_) (fun c_10 => ?_)
        · replace hf := if_f c_10 hf
          exact w_C_X0_thought_b36 X K _ _ _ _ ls _ _ O (lv_sub hl [0, 1, 2, 3] rfl) hf
        · replace hf := if_t c_10 hf
          refine lv_ldc (v := (-10000000)) hx hb X.1.2.2.2.1 (X.1.2.2.2.2 _ q803) dX0_thought_33 ?_
          exact x_iret X O rfl _ (Option.some.inj hf).symm rfl dX0_thought_35
def C_X0_told_b30 (Δ : DT) : Nat → ST → Int32 → Int32 → Int32 → Int32 → Option (ST × Int32)
  | 0, _, _, _, _, _ => none
  | n + 1, σ, x1, x2, x3, x4 =>
    (if 12 < x4 then some (σ, (-100)) else bn2 (C_X1_isLawful Δ 0 σ x1 x4) (fun σ_2 r_3 => (if r_3 = 0 then lt1 (x4 + 1) (fun x4_5 => (C_X0_told_b30 Δ n) σ_2 x1 x2 x3 x4_5) else (if x3 = 0 then some (σ_2, x4) else some (σ_2, (x4 - x2))))))
theorem w_C_X0_told_b30 {Δ : DT} (X : FX p m c meth s args RX0 cX0_told 5 (some .int)) (K : XK D d A s) {z : ST × Int32} : ∀ (n : Nat) (σ : ST) (x1 : Int32) (x2 : Int32) (x3 : Int32) (x4 : Int32) (ls : Array Slot) (H : Heap) (locs : List Loc), XH D A s.heap (hC hs) (xct (LC Δ) (okC Δ) (hC hs) d σ) H locs → lv_has ls 5 [(0, .ref ((hC hs) 0 0 0)), (1, .int x1), (2, .int x2), (3, .int x3), (4, .int x4)] → C_X0_told_b30 Δ n σ x1 x2 x3 x4 = some z → W p l e (rmD 423 0 0) s m args below meth c H locs 0 0 (MQ below (Qi D (pz z) (cw (hC hs) (LC Δ) (okC Δ) d) A) args s 0 0 A) (F0 m 30 ls []) := by
  have hx := X.1.1; have hb := X.1.2.1
  intro n
  induction n with
  | zero =>
    intro σ x1 x2 x3 x4 ls H locs O hl hf
    exact absurd hf (fun q => by cases q)
  | succ n ih =>
    intro σ x1 x2 x3 x4 ls H locs O hl hf
    rw [C_X0_told_b30] at hf
    refine lv_iload hx hb dX0_told_30 (lv_at hl 4 rfl) ?_
    refine lv_bipush (v := 12) hx hb dX0_told_32 (by decide) ?_
    refine lv_icmp_gt (tgt := 70) hx hb dX0_told_34 (by decide) (fun c_1 => ?_) (fun c_1 => ?_)
    · replace hf := if_t c_1 hf
      refine lv_bipush (v := (-100)) hx hb dX0_told_70 (by decide) ?_
      exact x_iret X O rfl _ (Option.some.inj hf).symm rfl dX0_told_72
    · replace hf := if_f c_1 hf
      refine lv_aload_n hx hb dX0_told_37 rfl (lv_at hl 0 rfl) ?_
      refine x_gF X K O 6 rfl LC_0 rfl rfl in_X0 (by decide) q379 dX0_told_38 ?_
      refine lv_iload_n hx hb dX0_told_41 rfl (lv_at hl 1 rfl) ?_
      refine lv_iload hx hb dX0_told_42 (lv_at hl 4 rfl) ?_
      obtain ⟨σ_2, r_3, hg, hf⟩ := bn2_s hf
      refine x_calli (x_runV (As := [.int x1, .int x4]) (rest := []) X K O (xct_obj rfl LC_1) rfl (m_C_X1_isLawful rfl hg) EN_b EN_h (lw_V q873 q855 q856 q119 q857) 2 rfl hl.1 (Nat.le_of_ble_eq_true rfl) hdV_X1_isLawful ⟨by decide, by decide⟩ ⟨Nat.le_refl _, Nat.le_refl _⟩ dX0_told_44) (fun r u H locs hp O _ => ?_)
      cases hp
      have O : XH D A s.heap (hC hs) (xct (LC Δ) (okC Δ) (hC hs) d σ_2) H locs := O
      refine lv_if_eq (tgt := 64) hx hb dX0_told_47 (by decide) (fun c_4 => ?_) (fun c_4 => ?_)
      · replace hf := if_t c_4 hf
        obtain ⟨x4_5, ex4_5, hf⟩ := lt1_s hf
        refine lv_iinc (v := x4_5) (lv' := [(4, .int x4_5), (0, .ref ((hC hs) 0 0 0)), (1, .int x1), (2, .int x2), (3, .int x3)]) hx hb dX0_told_64 hl (k := 4) rfl (by rw [ex4_5]; rfl) (by decide) rfl (fun ls hl => ?_)
        refine lv_goto (tgt := 30) hx hb dX0_told_67 (by decide) ?_
        exact ih _ _ _ _ _ ls _ _ O (lv_sub hl [1, 2, 3, 4, 0] rfl) hf
      · replace hf := if_f c_4 hf
        refine lv_iload_n hx hb dX0_told_50 rfl (lv_at hl 3 rfl) ?_
        refine lv_if_ne (tgt := 59) hx hb dX0_told_51 (by decide) (fun c_6 => ?_) (fun c_6 => ?_)
        · replace hf := if_f c_6 hf
          refine lv_iload hx hb dX0_told_59 (lv_at hl 4 rfl) ?_
          refine lv_iload_n hx hb dX0_told_61 rfl (lv_at hl 2 rfl) ?_
          refine lv_isub hx hb dX0_told_62 ?_
          exact x_iret X O rfl _ (Option.some.inj hf).symm rfl dX0_told_63
        · replace hf := if_t c_6 hf
          refine lv_iload hx hb dX0_told_54 (lv_at hl 4 rfl) ?_
          refine lv_goto (tgt := 63) hx hb dX0_told_56 (by decide) ?_
          exact x_iret X O rfl _ (Option.some.inj hf).symm rfl dX0_told_63
def C_X0_told (Δ : DT) (σ : ST) (p1 : Int32) (p2 : Int32) (p3 : Int32) : Option (ST × Int32) :=
  bn2 (C_X0_isOne Δ σ p1) (fun σ_1 r_2 => (if r_2 = 0 then some (σ_1, (-100)) else bn2 (C_X0_isSize Δ σ_1 p2) (fun σ_4 r_5 => (if r_5 = 0 then some (σ_4, (-100)) else bn2 (C_X0_isIn Δ σ_4 p3 0 1) (fun σ_7 r_8 => (if r_8 = 0 then some (σ_7, (-100)) else C_X0_told_b30 Δ FUEL σ_7 p1 p2 p3 1))))))
theorem m_C_X0_told {l : Launch} {D : va_G} {d : Nat → ClassId} {hs : IX} {Δ : DT} {p1 : Int32} {p2 : Int32} {p3 : Int32} {σ : ST} {z : ST × Int32} (hf : C_X0_told Δ σ p1 p2 p3 = some z) : XM l D d EN yX0_told cX0_told 5 (some .int) 423 0 0 [.ref ((hC hs) 0 0 0), .int p1, .int p2, .int p3] (hC hs) (xct (LC Δ) (okC Δ) (hC hs) d σ) (Qi D (pz z) (cw (hC hs) (LC Δ) (okC Δ) d)) := by
  refine XM.of (by decide +kernel) (Nat.le_of_ble_eq_true rfl) ?_
  intro p e s m below meth c A ls X _ K _ O hl
  have hl : lv_has ls 5 [(0, .ref ((hC hs) 0 0 0)), (1, .int p1), (2, .int p2), (3, .int p3)] := hl
  have hx := X.1.1; have hb := X.1.2.1
  rw [C_X0_told] at hf
  refine lv_aload_n hx hb dX0_told_0 rfl (lv_at hl 0 rfl) ?_
  refine lv_iload_n hx hb dX0_told_1 rfl (lv_at hl 1 rfl) ?_
  obtain ⟨σ_1, r_2, hg, hf⟩ := bn2_s hf
  refine x_calli (x_runV (As := [.int p1]) (rest := []) X K O (xct_obj rfl LC_0) rfl (m_C_X0_isOne hg) EN_b EN_h (lw_V q791 q793 qs23 q111 q794) 1 rfl hl.1 (Nat.le_of_ble_eq_true rfl) hdV_X0_isOne ⟨by decide, by decide⟩ ⟨Nat.le_refl _, Nat.le_refl _⟩ dX0_told_2) (fun r u H locs hp O _ => ?_)
  cases hp
  have O : XH D A s.heap (hC hs) (xct (LC Δ) (okC Δ) (hC hs) d σ_1) H locs := O
  refine lv_if_eq (tgt := 24) hx hb dX0_told_5 (by decide) (fun c_3 => ?_) (fun c_3 => ?_)
  · replace hf := if_t c_3 hf
    refine lv_bipush (v := (-100)) hx hb dX0_told_24 (by decide) ?_
    exact x_iret X O rfl _ (Option.some.inj hf).symm rfl dX0_told_26
  · replace hf := if_f c_3 hf
    refine lv_iload_n hx hb dX0_told_8 rfl (lv_at hl 2 rfl) ?_
    obtain ⟨σ_4, r_5, hg, hf⟩ := bn2_s hf
    refine x_calli (x_runS (As := [.int p2]) (rest := []) X K O (m_C_X0_isSize hg) EN_b EN_h (lw_S q812 q813 q111 q814) 1 rfl hl.1 (Nat.le_of_ble_eq_true rfl) hdS_X0_isSize ⟨by decide, by decide⟩ ⟨Nat.le_refl _, Nat.le_refl _⟩ dX0_told_9) (fun r u H locs hp O _ => ?_)
    cases hp
    have O : XH D A s.heap (hC hs) (xct (LC Δ) (okC Δ) (hC hs) d σ_4) H locs := O
    refine lv_if_eq (tgt := 24) hx hb dX0_told_12 (by decide) (fun c_6 => ?_) (fun c_6 => ?_)
    · replace hf := if_t c_6 hf
      refine lv_bipush (v := (-100)) hx hb dX0_told_24 (by decide) ?_
      exact x_iret X O rfl _ (Option.some.inj hf).symm rfl dX0_told_26
    · replace hf := if_f c_6 hf
      refine lv_iload_n hx hb dX0_told_15 rfl (lv_at hl 3 rfl) ?_
      refine lv_iconst (v := 0) hx hb dX0_told_16 (by decide) ?_
      refine lv_iconst (v := 1) hx hb dX0_told_17 (by decide) ?_
      obtain ⟨σ_7, r_8, hg, hf⟩ := bn2_s hf
      refine x_calli (x_runS (As := [.int p3, .int 0, .int 1]) (rest := []) X K O (m_C_X0_isIn hg) EN_b EN_h (lw_S q444 q445 q111 q446) 3 rfl hl.1 (Nat.le_of_ble_eq_true rfl) hdS_X0_isIn ⟨by decide, by decide⟩ ⟨Nat.le_refl _, Nat.le_refl _⟩ dX0_told_18) (fun r u H locs hp O _ => ?_)
      cases hp
      have O : XH D A s.heap (hC hs) (xct (LC Δ) (okC Δ) (hC hs) d σ_7) H locs := O
      refine lv_if_ne (tgt := 27) hx hb dX0_told_21 (by decide) (fun c_9 => ?_) (fun c_9 => ?_)
      · replace hf := if_f c_9 hf
        refine lv_iconst (v := 1) hx hb dX0_told_27 (by decide) ?_
        refine lv_istore (lv' := [(4, .int 1), (0, .ref ((hC hs) 0 0 0)), (1, .int p1), (2, .int p2), (3, .int p3)]) hx hb dX0_told_28 hl (by decide) rfl (fun ls hl => ?_)
        exact w_C_X0_told_b30 X K _ _ _ _ _ _ ls _ _ O (lv_sub hl [1, 2, 3, 4, 0] rfl) hf
      · replace hf := if_t c_9 hf
        refine lv_bipush (v := (-100)) hx hb dX0_told_24 (by decide) ?_
        exact x_iret X O rfl _ (Option.some.inj hf).symm rfl dX0_told_26
def C_X0_look (Δ : DT) (σ : ST) (p1 : Int32) : Option (ST × Int32) :=
  (if p1 = 0 then some (σ, (gI σ 1 0 0 5)) else if p1 = 1 then some (σ, (gI σ 1 0 0 7)) else if p1 = 2 then some (σ, (gI σ 1 0 0 6)) else if p1 = 3 then bn2 (C_X1_weights Δ 0 σ) (fun σ_5 r_6 => some (σ_5, r_6)) else bn2 (C_X0_isIn Δ σ p1 10 32) (fun σ_7 r_8 => (if r_8 = 0 then some (σ_7, (-1)) else (if p1 = 20 then some (σ_7, (-1)) else ck (okI (p1 - 10) 23) (some (σ_7, (gI σ_7 4 0 0 (Int32.toNatClampNeg (p1 - 10)))))))))
theorem m_C_X0_look {l : Launch} {D : va_G} {d : Nat → ClassId} {hs : IX} {Δ : DT} {p1 : Int32} {σ : ST} {z : ST × Int32} (hf : C_X0_look Δ σ p1 = some z) : XM l D d EN yX0_look cX0_look 2 (some .int) 1 0 0 [.ref ((hC hs) 0 0 0), .int p1] (hC hs) (xct (LC Δ) (okC Δ) (hC hs) d σ) (Qi D (pz z) (cw (hC hs) (LC Δ) (okC Δ) d)) := by
  refine XM.of (by decide +kernel) (Nat.le_of_ble_eq_true rfl) ?_
  intro p e s m below meth c A ls X _ K _ O hl
  have hl : lv_has ls 2 [(0, .ref ((hC hs) 0 0 0)), (1, .int p1)] := hl
  have hx := X.1.1; have hb := X.1.2.1
  rw [C_X0_look] at hf
  refine lv_iload_n hx hb dX0_look_0 rfl (lv_at hl 1 rfl) ?_
  by_cases c_1 : p1 = 0
  · replace hf := if_t c_1 hf
    have h9 : (Int32.toInt p1) = 0 := by rw [c_1]; rfl
    refine lv_tableIn (tgt := 32) hx hb dX0_look_1 (by rw [h9]; decide) (by rw [h9]; decide) (by rw [h9]; rfl) (by decide) ?_
    refine lv_aload_n hx hb dX0_look_32 rfl (lv_at hl 0 rfl) ?_
    refine x_gF X K O 6 rfl LC_0 rfl rfl in_X0 (by decide) q379 dX0_look_33 ?_
    refine x_gIN X K O 5 rfl LC_1 rfl rfl in_X1 (by decide) q304 dX0_look_36 ?_
    exact x_iret X O rfl _ (Option.some.inj hf).symm rfl dX0_look_39
  · replace hf := if_f c_1 hf
    by_cases c_2 : p1 = 1
    · replace hf := if_t c_2 hf
      have h9 : (Int32.toInt p1) = 1 := by rw [c_2]; rfl
      refine lv_tableIn (tgt := 40) hx hb dX0_look_1 (by rw [h9]; decide) (by rw [h9]; decide) (by rw [h9]; rfl) (by decide) ?_
      refine lv_aload_n hx hb dX0_look_40 rfl (lv_at hl 0 rfl) ?_
      refine x_gF X K O 6 rfl LC_0 rfl rfl in_X0 (by decide) q379 dX0_look_41 ?_
      refine x_gIN X K O 7 rfl LC_1 rfl rfl in_X1 (by decide) q309 dX0_look_44 ?_
      exact x_iret X O rfl _ (Option.some.inj hf).symm rfl dX0_look_47
    · replace hf := if_f c_2 hf
      by_cases c_3 : p1 = 2
      · replace hf := if_t c_3 hf
        have h9 : (Int32.toInt p1) = 2 := by rw [c_3]; rfl
        refine lv_tableIn (tgt := 48) hx hb dX0_look_1 (by rw [h9]; decide) (by rw [h9]; decide) (by rw [h9]; rfl) (by decide) ?_
        refine lv_aload_n hx hb dX0_look_48 rfl (lv_at hl 0 rfl) ?_
        refine x_gF X K O 6 rfl LC_0 rfl rfl in_X0 (by decide) q379 dX0_look_49 ?_
        refine x_gIN X K O 6 rfl LC_1 rfl rfl in_X1 (by decide) q306 dX0_look_52 ?_
        exact x_iret X O rfl _ (Option.some.inj hf).symm rfl dX0_look_55
      · replace hf := if_f c_3 hf
        by_cases c_4 : p1 = 3
        · replace hf := if_t c_4 hf
          have h9 : (Int32.toInt p1) = 3 := by rw [c_4]; rfl
          refine lv_tableIn (tgt := 56) hx hb dX0_look_1 (by rw [h9]; decide) (by rw [h9]; decide) (by rw [h9]; rfl) (by decide) ?_
          refine lv_aload_n hx hb dX0_look_56 rfl (lv_at hl 0 rfl) ?_
          refine x_gF X K O 6 rfl LC_0 rfl rfl in_X0 (by decide) q379 dX0_look_57 ?_
          obtain ⟨σ_5, r_6, hg, hf⟩ := bn2_s hf
          refine x_calli (x_runV (As := []) (rest := []) X K O (xct_obj rfl LC_1) rfl (m_C_X1_weights rfl hg) EN_b EN_h (lw_V q943 q925 q926 q119 q927) 0 rfl hl.1 (Nat.le_of_ble_eq_true rfl) hdV_X1_weights ⟨by decide, by decide⟩ ⟨Nat.le_refl _, Nat.le_refl _⟩ dX0_look_60) (fun r u H locs hp O _ => ?_)
          cases hp
          have O : XH D A s.heap (hC hs) (xct (LC Δ) (okC Δ) (hC hs) d σ_5) H locs := O
          exact x_iret X O rfl _ (Option.some.inj hf).symm rfl dX0_look_63
        · replace hf := if_f c_4 hf
          refine lv_tableOut (tgt := 64) hx hb dX0_look_1 (by have h8 := fun k (q : (Int32.toInt p1) = Int32.toInt k) => Int32.toInt_inj.mp q; have q0 : ¬ (Int32.toInt p1) = 0 := fun q => c_1 (h8 0 q); have q1 : ¬ (Int32.toInt p1) = 1 := fun q => c_2 (h8 1 q); have q2 : ¬ (Int32.toInt p1) = 2 := fun q => c_3 (h8 2 q); have q3 : ¬ (Int32.toInt p1) = 3 := fun q => c_4 (h8 3 q); omega) (by decide) ?_
          refine lv_iload_n hx hb dX0_look_64 rfl (lv_at hl 1 rfl) ?_
          refine lv_bipush (v := 10) hx hb dX0_look_65 (by decide) ?_
          refine lv_bipush (v := 32) hx hb dX0_look_67 (by decide) ?_
          obtain ⟨σ_7, r_8, hg, hf⟩ := bn2_s hf
          refine x_calli (x_runS (As := [.int p1, .int 10, .int 32]) (rest := []) X K O (m_C_X0_isIn hg) EN_b EN_h (lw_S q444 q445 q111 q446) 3 rfl hl.1 (Nat.le_of_ble_eq_true rfl) hdS_X0_isIn ⟨by decide, by decide⟩ ⟨Nat.le_refl _, Nat.le_refl _⟩ dX0_look_69) (fun r u H locs hp O _ => ?_)
          cases hp
          have O : XH D A s.heap (hC hs) (xct (LC Δ) (okC Δ) (hC hs) d σ_7) H locs := O
          refine lv_if_eq (tgt := 96) hx hb dX0_look_72 (by decide) (fun c_9 => ?_) (fun c_9 => ?_)
          · replace hf := if_t c_9 hf
            refine lv_iconst (v := (-1)) hx hb dX0_look_96 (by decide) ?_
            exact x_iret X O rfl _ (Option.some.inj hf).symm rfl dX0_look_97
          · replace hf := if_f c_9 hf
            refine lv_iload_n hx hb dX0_look_75 rfl (lv_at hl 1 rfl) ?_
            refine lv_bipush (v := 20) hx hb dX0_look_76 (by decide) ?_
            refine lv_icmp_eq (tgt := 96) hx hb dX0_look_78 (by decide) (fun c_10 => ?_) (fun c_10 => ?_)
            · replace hf := if_t c_10 hf
              refine lv_iconst (v := (-1)) hx hb dX0_look_96 (by decide) ?_
              exact x_iret X O rfl _ (Option.some.inj hf).symm rfl dX0_look_97
            · replace hf := if_f c_10 hf
              refine lv_aload_n hx hb dX0_look_81 rfl (lv_at hl 0 rfl) ?_
              refine x_gF X K O 6 rfl LC_0 rfl rfl in_X0 (by decide) q379 dX0_look_82 ?_
              refine x_gFN X K O 2 rfl LC_1 rfl rfl in_X1 (by decide) q300 dX0_look_85 ?_
              refine lv_iload_n hx hb dX0_look_88 rfl (lv_at hl 1 rfl) ?_
              refine lv_bipush (v := 10) hx hb dX0_look_89 (by decide) ?_
              refine lv_isub hx hb dX0_look_91 ?_
              obtain ⟨c_11, hf⟩ := ck_s hf
              refine x_ild X K O rfl LC_4 c_11 (j := (Int32.toNatClampNeg (p1 - 10))) rfl dX0_look_92 ?_
              refine lv_goto (tgt := 97) hx hb dX0_look_93 (by decide) ?_
              exact x_iret X O rfl _ (Option.some.inj hf).symm rfl dX0_look_97
end CW
