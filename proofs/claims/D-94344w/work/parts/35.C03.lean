section CW
variable {p : Program} {l : Launch} {e : Env} {s : State} {m : MethodId} {args : Array Value} {below : List Frame} {meth : Method} {c : Code} {D : va_G} {A : Nat → Prop} {hs : IX} {d : Nat → ClassId} {Δ : DT}

def C_X1_tells_b124 (Δ : DT) (v : Nat) (kb64 : ST → Int32 → Int32 → Nat → Int32 → Int32 → Option (ST × Int32)) (σ : ST) (x4 : Int32) (x5 : Int32) (x6a : Nat) (x7 : Int32) (x8 : Int32) : Option (ST × Int32) :=
  lt1 (x8 + 1) (fun x8_1 => kb64 σ x4 x5 x6a x7 x8_1)
theorem w_C_X1_tells_b124 {Δ : DT} {v : Nat} (X : FX p m c meth s args RX1 cX1_tells 9 (some .boolean)) (K : XK D d A s) {z : ST × Int32} (hk : okC Δ 1 v 0 = true) {kb64 : ST → Int32 → Int32 → Nat → Int32 → Int32 → Option (ST × Int32)} (hkb64 : ∀ (σ : ST) (x4 : Int32) (x5 : Int32) (x6a : Nat) (x7 : Int32) (x8 : Int32) (kx6 : (okC Δ) 20 x6a 0 = true) (ls : Array Slot) (H : Heap) (locs : List Loc), XH D A s.heap (hC hs) (xct (LC Δ) (okC Δ) (hC hs) d σ) H locs → lv_has ls 9 [(0, .ref ((hC hs) 1 v 0)), (4, .int x4), (5, .int x5), (6, .ref ((hC hs) 20 x6a 0)), (7, .int x7), (8, .int x8)] → kb64 σ x4 x5 x6a x7 x8 = some z → W p l e (rmD 844 0 0) s m args below meth c H locs 0 0 (MQ below (Qi D (pz z) (cw (hC hs) (LC Δ) (okC Δ) d) A) args s 0 0 A) (F0 m 64 ls [])) (σ : ST) (x4 : Int32) (x5 : Int32) (x6a : Nat) (x7 : Int32) (x8 : Int32) (kx6 : (okC Δ) 20 x6a 0 = true) (ls : Array Slot) (H : Heap) (locs : List Loc) (O : XH D A s.heap (hC hs) (xct (LC Δ) (okC Δ) (hC hs) d σ) H locs) (hl : lv_has ls 9 [(0, .ref ((hC hs) 1 v 0)), (4, .int x4), (5, .int x5), (6, .ref ((hC hs) 20 x6a 0)), (7, .int x7), (8, .int x8)]) (hf : C_X1_tells_b124 Δ v kb64 σ x4 x5 x6a x7 x8 = some z) : W p l e (rmD 844 0 0) s m args below meth c H locs 0 0 (MQ below (Qi D (pz z) (cw (hC hs) (LC Δ) (okC Δ) d) A) args s 0 0 A) (F0 m 124 ls []) := by
  have hx := X.1.1; have hb := X.1.2.1
  rw [C_X1_tells_b124] at hf
  obtain ⟨x8_1, ex8_1, hf⟩ := lt1_s hf
  refine lv_iinc (v := x8_1) (lv' := [(8, .int x8_1), (0, .ref ((hC hs) 1 v 0)), (4, .int x4), (5, .int x5), (6, .ref ((hC hs) 20 x6a 0)), (7, .int x7)]) hx hb dX1_tells_124 hl (k := 5) rfl (by rw [ex8_1]; rfl) (by decide) rfl (fun ls hl => ?_)
  refine lv_goto (tgt := 64) hx hb dX1_tells_127 (by decide) ?_
  exact hkb64 _ _ _ _ _ _ kx6 ls _ _ O (lv_sub hl [1, 2, 3, 4, 5, 0] rfl) hf
def C_X1_tells_b64 (Δ : DT) (v : Nat) : Nat → ST → Int32 → Int32 → Nat → Int32 → Int32 → Option (ST × Int32)
  | 0, _, _, _, _, _, _ => none
  | n + 1, σ, x4, x5, x6a, x7, x8 =>
    bn2 (C_J2_size Δ x6a σ) (fun σ_1 r_2 => (if r_2 ≤ x8 then (if x7 = 0 then some (σ_1, 0) else (if x5 = 0 then some (σ_1, 0) else some (σ_1, 1))) else bn2 (C_J2_get Δ x6a σ_1 x8) (fun σ_6 r_7 => ck ((okC Δ) 22 r_7 0) ((if (gI σ_6 22 r_7 0 0) = x4 then bn2 (C_J2_get Δ x6a σ_6 x8) (fun σ_10 r_11 => ck ((okC Δ) 22 r_11 0) (ck (decide (¬ gR σ_10 22 r_11 0 1 = 0)) (ck ((okC Δ) 23 (gR σ_10 22 r_11 0 1 - 1) 0) (bn2 (ev Δ (C_X2_fact Δ v 1) v 1 TF σ_10 (gR σ_10 22 r_11 0 1 - 1)) (fun σ_15 r_16 => (if r_16 = 1 then some (σ_15, 1) else C_X1_tells_b124 Δ v (C_X1_tells_b64 Δ v n) σ_15 x4 x5 x6a 0 x8)))))) else C_X1_tells_b124 Δ v (C_X1_tells_b64 Δ v n) σ_6 x4 x5 x6a x7 x8)))))
theorem w_C_X1_tells_b64 {Δ : DT} {v : Nat} (X : FX p m c meth s args RX1 cX1_tells 9 (some .boolean)) (K : XK D d A s) {z : ST × Int32} (hk : okC Δ 1 v 0 = true) : ∀ (n : Nat) (σ : ST) (x4 : Int32) (x5 : Int32) (x6a : Nat) (x7 : Int32) (x8 : Int32) (kx6 : (okC Δ) 20 x6a 0 = true) (ls : Array Slot) (H : Heap) (locs : List Loc), XH D A s.heap (hC hs) (xct (LC Δ) (okC Δ) (hC hs) d σ) H locs → lv_has ls 9 [(0, .ref ((hC hs) 1 v 0)), (4, .int x4), (5, .int x5), (6, .ref ((hC hs) 20 x6a 0)), (7, .int x7), (8, .int x8)] → C_X1_tells_b64 Δ v n σ x4 x5 x6a x7 x8 = some z → W p l e (rmD 844 0 0) s m args below meth c H locs 0 0 (MQ below (Qi D (pz z) (cw (hC hs) (LC Δ) (okC Δ) d) A) args s 0 0 A) (F0 m 64 ls []) := by
  have hx := X.1.1; have hb := X.1.2.1
  intro n
  induction n with
  | zero =>
    intro σ x4 x5 x6a x7 x8 kx6 ls H locs O hl hf
    exact absurd hf (fun q => by cases q)
  | succ n ih =>
    intro σ x4 x5 x6a x7 x8 kx6 ls H locs O hl hf
    rw [C_X1_tells_b64] at hf
    refine lv_iload hx hb dX1_tells_64 (lv_at hl 5 rfl) ?_
    refine lv_aload hx hb dX1_tells_66 (lv_at hl 3 rfl) ?_
    obtain ⟨σ_1, r_2, hg, hf⟩ := bn2_s hf
    refine x_calli (x_runV (As := []) (rest := [.int x8]) X K O (xct_obj kx6 LC_20) rfl (m_C_J2_size kx6 hg) EN_b EN_h (lw_V q832 q658 q659 q114 q660) 0 rfl hl.1 (Nat.le_of_ble_eq_true rfl) hdV_J2_size ⟨by decide, by decide⟩ ⟨Nat.le_refl _, Nat.le_refl _⟩ dX1_tells_68) (fun r u H locs hp O _ => ?_)
    cases hp
    have O : XH D A s.heap (hC hs) (xct (LC Δ) (okC Δ) (hC hs) d σ_1) H locs := O
    refine lv_icmp_ge (tgt := 130) hx hb dX1_tells_71 (by decide) (fun c_3 => ?_) (fun c_3 => ?_)
    · replace hf := if_t c_3 hf
      refine lv_iload hx hb dX1_tells_130 (lv_at hl 4 rfl) ?_
      refine lv_if_eq (tgt := 144) hx hb dX1_tells_132 (by decide) (fun c_4 => ?_) (fun c_4 => ?_)
      · replace hf := if_t c_4 hf
        refine lv_iconst (v := 0) hx hb dX1_tells_144 (by decide) ?_
        exact x_zret X O rfl rfl _ (Option.some.inj hf).symm rfl dX1_tells_145
      · replace hf := if_f c_4 hf
        refine lv_iload hx hb dX1_tells_135 (lv_at hl 2 rfl) ?_
        refine lv_if_eq (tgt := 144) hx hb dX1_tells_137 (by decide) (fun c_5 => ?_) (fun c_5 => ?_)
        · replace hf := if_t c_5 hf
          refine lv_iconst (v := 0) hx hb dX1_tells_144 (by decide) ?_
          exact x_zret X O rfl rfl _ (Option.some.inj hf).symm rfl dX1_tells_145
        · replace hf := if_f c_5 hf
          refine lv_iconst (v := 1) hx hb dX1_tells_140 (by decide) ?_
          refine lv_goto (tgt := 145) hx hb dX1_tells_141 (by decide) ?_
          exact x_zret X O rfl rfl _ (Option.some.inj hf).symm rfl dX1_tells_145
    · replace hf := if_f c_3 hf
      refine lv_aload hx hb dX1_tells_74 (lv_at hl 3 rfl) ?_
      refine lv_iload hx hb dX1_tells_76 (lv_at hl 5 rfl) ?_
      obtain ⟨σ_6, r_7, hg, hf⟩ := bn2_s hf
      refine x_callr (x_runV (As := [.int x8]) (rest := []) X K O (xct_obj kx6 LC_20) rfl (m_C_J2_get kx6 hg) EN_b EN_h (lw_V q823 q824 q825 q114 q826) 1 rfl hl.1 (Nat.le_of_ble_eq_true rfl) hdV_J2_get ⟨by decide, by decide⟩ ⟨Nat.le_refl _, Nat.le_refl _⟩ dX1_tells_78) (fun r u H locs hp O _ => ?_)
      cases hp
      have O : XH D A s.heap (hC hs) (xct (LC Δ) (okC Δ) (hC hs) d σ_6) H locs := O
      obtain ⟨c_8, hf⟩ := ck_s hf
      refine x_top (w := .ref ((hC hs) 22 r_7 0)) rfl ?_
      refine x_cast X K O (xct_obj c_8 LC_22) rfl q833 dX1_tells_81 ?_
      refine x_gIN X K O 0 c_8 LC_22 rfl rfl in_X14 (by decide) q753 dX1_tells_84 ?_
      refine lv_iload hx hb dX1_tells_87 (lv_at hl 1 rfl) ?_
      refine lv_icmp_eq (tgt := 95) hx hb dX1_tells_89 (by decide) (fun c_9 => ?_) (fun c_9 => ?_)
      · replace hf := if_t c_9 hf
        refine lv_aload hx hb dX1_tells_95 (lv_at hl 3 rfl) ?_
        refine lv_iload hx hb dX1_tells_97 (lv_at hl 5 rfl) ?_
        obtain ⟨σ_10, r_11, hg, hf⟩ := bn2_s hf
        refine x_callr (x_runV (As := [.int x8]) (rest := []) X K O (xct_obj kx6 LC_20) rfl (m_C_J2_get kx6 hg) EN_b EN_h (lw_V q823 q824 q825 q114 q826) 1 rfl hl.1 (Nat.le_of_ble_eq_true rfl) hdV_J2_get ⟨by decide, by decide⟩ ⟨Nat.le_refl _, Nat.le_refl _⟩ dX1_tells_99) (fun r u H locs hp O _ => ?_)
        cases hp
        have O : XH D A s.heap (hC hs) (xct (LC Δ) (okC Δ) (hC hs) d σ_10) H locs := O
        obtain ⟨c_12, hf⟩ := ck_s hf
        refine x_top (w := .ref ((hC hs) 22 r_11 0)) rfl ?_
        refine x_cast X K O (xct_obj c_12 LC_22) rfl q833 dX1_tells_102 ?_
        obtain ⟨c_13, hf⟩ := ck_s hf
        obtain ⟨c_14, hf⟩ := ck_s hf
        refine x_gQN X K O 1 (of_decide_eq_true c_13) c_12 LC_22 rfl rfl in_X14 (by decide) q755 dX1_tells_105 ?_
        refine lv_aload_n hx hb dX1_tells_108 rfl (lv_at hl 0 rfl) ?_
        refine x_gF X K O 4 hk LC_1 rfl rfl in_X1 (by decide) q302 dX1_tells_109 ?_
        obtain ⟨σ_15, r_16, hg, hf⟩ := bn2_s hf
        refine x_term (rest := []) X K O q834 (m_ev (oks_b hk (by decide)) (fun h => m_C_X2_fact (oks_b hk (by decide)) h) TF hg) (by decide) hl.1 (Nat.le_of_ble_eq_true rfl) dX1_tells_112 (fun H locs O => ?_)
        have O : XH D A s.heap (hC hs) (xct (LC Δ) (okC Δ) (hC hs) d σ_15) H locs := O
        refine lv_iconst (v := 1) hx hb dX1_tells_115 (by decide) ?_
        refine lv_icmp_ne (tgt := 121) hx hb dX1_tells_116 (by decide) (fun c_17 => ?_) (fun c_17 => ?_)
        · replace hf := if_f c_17 hf
          refine lv_iconst (v := 0) hx hb dX1_tells_121 (by decide) ?_
          refine lv_istore (lv' := [(7, .int 0), (0, .ref ((hC hs) 1 v 0)), (4, .int x4), (5, .int x5), (6, .ref ((hC hs) 20 x6a 0)), (8, .int x8)]) hx hb dX1_tells_122 hl (by decide) rfl (fun ls hl => ?_)
          exact w_C_X1_tells_b124 X K hk ih _ _ _ _ _ _ kx6 ls _ _ O (lv_sub hl [1, 2, 3, 4, 0, 5] rfl) hf
        · replace hf := if_t c_17 hf
          refine lv_iconst (v := 1) hx hb dX1_tells_119 (by decide) ?_
          exact x_zret X O rfl rfl _ (Option.some.inj hf).symm rfl dX1_tells_120
      · replace hf := if_f c_9 hf
        refine lv_goto (tgt := 124) hx hb dX1_tells_92 (by decide) ?_
        exact w_C_X1_tells_b124 X K hk ih _ _ _ _ _ _ kx6 ls _ _ O (lv_sub hl [0, 1, 2, 3, 4, 5] rfl) hf
def C_X1_tells (Δ : DT) (v : Nat) (σ : ST) (p1 : Int32) (p2 : Int32) (p3 : Int32) (p4 : Int32) (p5 : Int32) : Option (ST × Int32) :=
  ck (okI p1 12) ((if (gI σ 9 v (Int32.toNatClampNeg p1) 0) = 4 then ck (okZ p5) (some (σ, p5)) else ck ((okC Δ) 20 (gR σ 0 0 0 2) 0) (ck (okI p1 12) (bn2 (C_J2_get Δ (gR σ 0 0 0 2) σ (2 + (gI σ 9 v (Int32.toNatClampNeg p1) 0))) (fun σ_5 r_6 => ck ((okC Δ) 20 r_6 0) (bn1 (C_X2_of Δ v 1 v σ_5 p1 p2 p3) (fun σ_8 => C_X1_tells_b64 Δ v FUEL σ_8 p4 p5 r_6 1 0)))))))
theorem m_C_X1_tells {l : Launch} {D : va_G} {d : Nat → ClassId} {hs : IX} {Δ : DT} {v : Nat} {p1 : Int32} {p2 : Int32} {p3 : Int32} {p4 : Int32} {p5 : Int32} {σ : ST} {z : ST × Int32} (hk : okC Δ 1 v 0 = true) (hf : C_X1_tells Δ v σ p1 p2 p3 p4 p5 = some z) : XM l D d EN yX1_tells cX1_tells 9 (some .boolean) 844 0 0 [.ref ((hC hs) 1 v 0), .int p1, .int p2, .int p3, .int p4, .int p5] (hC hs) (xct (LC Δ) (okC Δ) (hC hs) d σ) (Qi D (pz z) (cw (hC hs) (LC Δ) (okC Δ) d)) := by
  refine XM.of (by decide +kernel) (Nat.le_of_ble_eq_true rfl) ?_
  intro p e s m below meth c A ls X _ K _ O hl
  have hl : lv_has ls 9 [(0, .ref ((hC hs) 1 v 0)), (1, .int p1), (2, .int p2), (3, .int p3), (4, .int p4), (5, .int p5)] := hl
  have hx := X.1.1; have hb := X.1.2.1
  rw [C_X1_tells] at hf
  refine lv_aload_n hx hb dX1_tells_0 rfl (lv_at hl 0 rfl) ?_
  refine x_gF X K O 0 hk LC_1 rfl rfl in_X1 (by decide) q293 dX1_tells_1 ?_
  refine lv_iload_n hx hb dX1_tells_4 rfl (lv_at hl 1 rfl) ?_
  obtain ⟨c_1, hf⟩ := ck_s hf
  refine x_ald X K O 3 hk LC_5 (by decide) rfl rfl c_1 (j := (Int32.toNatClampNeg p1)) rfl dX1_tells_5 ?_
  refine x_gFN X K O 0 (oks_b hk (okI_lt c_1)) LC_8 rfl rfl in_X3 (by decide) q277 dX1_tells_6 ?_
  refine lv_iconst (v := 0) hx hb dX1_tells_9 (by decide) ?_
  refine x_ild X K O (oks_b hk (okI_lt c_1)) LC_9 (by decide) (j := 0) rfl dX1_tells_10 ?_
  refine lv_iconst (v := 4) hx hb dX1_tells_11 (by decide) ?_
  refine lv_icmp_ne (tgt := 18) hx hb dX1_tells_12 (by decide) (fun c_2 => ?_) (fun c_2 => ?_)
  · replace hf := if_f c_2 hf
    refine lv_aload_n hx hb dX1_tells_18 rfl (lv_at hl 0 rfl) ?_
    refine x_gF X K O 9 hk LC_1 rfl rfl in_X1 (by decide) q312 dX1_tells_19 ?_
    obtain ⟨c_3, hf⟩ := ck_s hf
    refine x_gRN X K O 2 rfl LC_0 rfl rfl in_X0 (by decide) q375 dX1_tells_22 ?_
    refine lv_iconst (v := 2) hx hb dX1_tells_25 (by decide) ?_
    refine lv_aload_n hx hb dX1_tells_26 rfl (lv_at hl 0 rfl) ?_
    refine x_gF X K O 0 hk LC_1 rfl rfl in_X1 (by decide) q293 dX1_tells_27 ?_
    refine lv_iload_n hx hb dX1_tells_30 rfl (lv_at hl 1 rfl) ?_
    obtain ⟨c_4, hf⟩ := ck_s hf
    refine x_ald X K O 3 hk LC_5 (by decide) rfl rfl c_4 (j := (Int32.toNatClampNeg p1)) rfl dX1_tells_31 ?_
    refine x_gFN X K O 0 (oks_b hk (okI_lt c_4)) LC_8 rfl rfl in_X3 (by decide) q277 dX1_tells_32 ?_
    refine lv_iconst (v := 0) hx hb dX1_tells_35 (by decide) ?_
    refine x_ild X K O (oks_b hk (okI_lt c_4)) LC_9 (by decide) (j := 0) rfl dX1_tells_36 ?_
    refine lv_iadd hx hb dX1_tells_37 ?_
    obtain ⟨σ_5, r_6, hg, hf⟩ := bn2_s hf
    refine x_callr (x_runV (As := [.int (2 + (gI σ 9 v (Int32.toNatClampNeg p1) 0))]) (rest := []) X K O (xct_obj c_3 LC_20) rfl (m_C_J2_get c_3 hg) EN_b EN_h (lw_V q823 q824 q825 q114 q826) 1 rfl hl.1 (Nat.le_of_ble_eq_true rfl) hdV_J2_get ⟨by decide, by decide⟩ ⟨Nat.le_refl _, Nat.le_refl _⟩ dX1_tells_38) (fun r u H locs hp O _ => ?_)
    cases hp
    have O : XH D A s.heap (hC hs) (xct (LC Δ) (okC Δ) (hC hs) d σ_5) H locs := O
    obtain ⟨c_7, hf⟩ := ck_s hf
    refine x_top (w := .ref ((hC hs) 20 r_6 0)) rfl ?_
    refine x_cast X K O (xct_obj c_7 LC_20) rfl q827 dX1_tells_41 ?_
    refine lv_astore (lv' := [(6, .ref ((hC hs) 20 r_6 0)), (0, .ref ((hC hs) 1 v 0)), (1, .int p1), (2, .int p2), (3, .int p3), (4, .int p4), (5, .int p5)]) hx hb dX1_tells_44 hl (by decide) rfl (fun ls hl => ?_)
    refine lv_iconst (v := 1) hx hb dX1_tells_46 (by decide) ?_
    refine lv_istore (lv' := [(7, .int 1), (6, .ref ((hC hs) 20 r_6 0)), (0, .ref ((hC hs) 1 v 0)), (1, .int p1), (2, .int p2), (3, .int p3), (4, .int p4), (5, .int p5)]) hx hb dX1_tells_47 hl (by decide) rfl (fun ls hl => ?_)
    refine lv_aload_n hx hb dX1_tells_49 rfl (lv_at hl 2 rfl) ?_
    refine x_gF X K O 4 hk LC_1 rfl rfl in_X1 (by decide) q302 dX1_tells_50 ?_
    refine lv_aload_n hx hb dX1_tells_53 rfl (lv_at hl 2 rfl) ?_
    refine lv_iload_n hx hb dX1_tells_54 rfl (lv_at hl 3 rfl) ?_
    refine lv_iload_n hx hb dX1_tells_55 rfl (lv_at hl 4 rfl) ?_
    refine lv_iload_n hx hb dX1_tells_56 rfl (lv_at hl 5 rfl) ?_
    obtain ⟨σ_8, hg, hf⟩ := bn1_s hf
    refine x_callr (x_runV (As := [.ref ((hC hs) 1 v 0), .int p1, .int p2, .int p3]) (rest := []) X K O (xct_obj (oks_b hk (by decide)) LC_2) rfl (m_C_X2_of (oks_b hk (by decide)) hk hg) EN_b EN_h (lw_V q828 q829 q830 q120 q831) 4 rfl hl.1 (Nat.le_of_ble_eq_true rfl) hdV_X2_of ⟨by decide, by decide⟩ ⟨Nat.le_refl _, Nat.le_refl _⟩ dX1_tells_57) (fun r u H locs hp O _ => ?_)
    obtain ⟨rfl, rfl⟩ := hp
    have O : XH D A s.heap (hC hs) (xct (LC Δ) (okC Δ) (hC hs) d σ_8) H locs := O
    refine lv_pop hx hb dX1_tells_60 rfl ?_
    refine lv_iconst (v := 0) hx hb dX1_tells_61 (by decide) ?_
    refine lv_istore (lv' := [(8, .int 0), (7, .int 1), (6, .ref ((hC hs) 20 r_6 0)), (0, .ref ((hC hs) 1 v 0)), (1, .int p1), (2, .int p2), (3, .int p3), (4, .int p4), (5, .int p5)]) hx hb dX1_tells_62 hl (by decide) rfl (fun ls hl => ?_)
    exact w_C_X1_tells_b64 X K hk _ _ _ _ _ _ _ c_7 ls _ _ O (lv_sub hl [3, 7, 8, 2, 1, 0] rfl) hf
  · replace hf := if_t c_2 hf
    refine lv_iload hx hb dX1_tells_15 (lv_at hl 5 rfl) ?_
    obtain ⟨c_9, hf⟩ := ck_s hf
    exact x_zret X O rfl (okZ_n c_9) _ (Option.some.inj hf).symm rfl dX1_tells_17
theorem hdV_X1_tells : yX1_tells.cls = RX1 ∧ (yX1_tells.cls ≠ "java/lang/invoke/MethodHandle" ∧ yX1_tells.cls ≠ "java/lang/invoke/VarHandle" ∧ (parseMethodDescriptor yX1_tells.desc).map (fun d => d.parameters.length) = some 5) := by decide +kernel
def C_X1_deals (Δ : DT) (v : Nat) (σ : ST) (p1 : Int32) (p2 : Int32) (p3 : Int32) : Option (ST × Int32) :=
  bn2 (C_X1_tells Δ v σ p1 p2 p3 1 1) (fun σ_1 r_2 => ck (okZ r_2) (some (σ_1, r_2)))
theorem m_C_X1_deals {l : Launch} {D : va_G} {d : Nat → ClassId} {hs : IX} {Δ : DT} {v : Nat} {p1 : Int32} {p2 : Int32} {p3 : Int32} {σ : ST} {z : ST × Int32} (hk : okC Δ 1 v 0 = true) (hf : C_X1_deals Δ v σ p1 p2 p3 = some z) : XM l D d EN yX1_deals cX1_deals 4 (some .boolean) 845 0 0 [.ref ((hC hs) 1 v 0), .int p1, .int p2, .int p3] (hC hs) (xct (LC Δ) (okC Δ) (hC hs) d σ) (Qi D (pz z) (cw (hC hs) (LC Δ) (okC Δ) d)) := by
  refine XM.of (by decide +kernel) (Nat.le_of_ble_eq_true rfl) ?_
  intro p e s m below meth c A ls X _ K _ O hl
  have hl : lv_has ls 4 [(0, .ref ((hC hs) 1 v 0)), (1, .int p1), (2, .int p2), (3, .int p3)] := hl
  have hx := X.1.1; have hb := X.1.2.1
  rw [C_X1_deals] at hf
  refine lv_aload_n hx hb dX1_deals_0 rfl (lv_at hl 0 rfl) ?_
  refine lv_iload_n hx hb dX1_deals_1 rfl (lv_at hl 1 rfl) ?_
  refine lv_iload_n hx hb dX1_deals_2 rfl (lv_at hl 2 rfl) ?_
  refine lv_iload_n hx hb dX1_deals_3 rfl (lv_at hl 3 rfl) ?_
  refine lv_iconst (v := 1) hx hb dX1_deals_4 (by decide) ?_
  refine lv_iconst (v := 1) hx hb dX1_deals_5 (by decide) ?_
  obtain ⟨σ_1, r_2, hg, hf⟩ := bn2_s hf
  refine x_calli (x_runV (As := [.int p1, .int p2, .int p3, .int 1, .int 1]) (rest := []) X K O (xct_obj hk LC_1) rfl (m_C_X1_tells hk hg) EN_b EN_h (lw_V q819 q821 qs25 q119 q822) 5 rfl hl.1 (Nat.le_of_ble_eq_true rfl) hdV_X1_tells ⟨by decide, by decide⟩ ⟨Nat.le_refl _, Nat.le_refl _⟩ dX1_deals_6) (fun r u H locs hp O _ => ?_)
  cases hp
  have O : XH D A s.heap (hC hs) (xct (LC Δ) (okC Δ) (hC hs) d σ_1) H locs := O
  obtain ⟨c_3, hf⟩ := ck_s hf
  exact x_zret X O rfl (okZ_n c_3) _ (Option.some.inj hf).symm rfl dX1_deals_9
def C_X1_breaks (Δ : DT) (v : Nat) (σ : ST) (p1 : Int32) (p2 : Int32) (p3 : Int32) : Option (ST × Int32) :=
  bn2 (C_X1_tells Δ v σ p1 p2 p3 2 0) (fun σ_1 r_2 => ck (okZ r_2) (some (σ_1, r_2)))
theorem m_C_X1_breaks {l : Launch} {D : va_G} {d : Nat → ClassId} {hs : IX} {Δ : DT} {v : Nat} {p1 : Int32} {p2 : Int32} {p3 : Int32} {σ : ST} {z : ST × Int32} (hk : okC Δ 1 v 0 = true) (hf : C_X1_breaks Δ v σ p1 p2 p3 = some z) : XM l D d EN yX1_breaks cX1_breaks 4 (some .boolean) 845 0 0 [.ref ((hC hs) 1 v 0), .int p1, .int p2, .int p3] (hC hs) (xct (LC Δ) (okC Δ) (hC hs) d σ) (Qi D (pz z) (cw (hC hs) (LC Δ) (okC Δ) d)) := by
  refine XM.of (by decide +kernel) (Nat.le_of_ble_eq_true rfl) ?_
  intro p e s m below meth c A ls X _ K _ O hl
  have hl : lv_has ls 4 [(0, .ref ((hC hs) 1 v 0)), (1, .int p1), (2, .int p2), (3, .int p3)] := hl
  have hx := X.1.1; have hb := X.1.2.1
  rw [C_X1_breaks] at hf
  refine lv_aload_n hx hb dX1_breaks_0 rfl (lv_at hl 0 rfl) ?_
  refine lv_iload_n hx hb dX1_breaks_1 rfl (lv_at hl 1 rfl) ?_
  refine lv_iload_n hx hb dX1_breaks_2 rfl (lv_at hl 2 rfl) ?_
  refine lv_iload_n hx hb dX1_breaks_3 rfl (lv_at hl 3 rfl) ?_
  refine lv_iconst (v := 2) hx hb dX1_breaks_4 (by decide) ?_
  refine lv_iconst (v := 0) hx hb dX1_breaks_5 (by decide) ?_
  obtain ⟨σ_1, r_2, hg, hf⟩ := bn2_s hf
  refine x_calli (x_runV (As := [.int p1, .int p2, .int p3, .int 2, .int 0]) (rest := []) X K O (xct_obj hk LC_1) rfl (m_C_X1_tells hk hg) EN_b EN_h (lw_V q819 q821 qs25 q119 q822) 5 rfl hl.1 (Nat.le_of_ble_eq_true rfl) hdV_X1_tells ⟨by decide, by decide⟩ ⟨Nat.le_refl _, Nat.le_refl _⟩ dX1_breaks_6) (fun r u H locs hp O _ => ?_)
  cases hp
  have O : XH D A s.heap (hC hs) (xct (LC Δ) (okC Δ) (hC hs) d σ_1) H locs := O
  obtain ⟨c_3, hf⟩ := ck_s hf
  exact x_zret X O rfl (okZ_n c_3) _ (Option.some.inj hf).symm rfl dX1_breaks_9
theorem hdV_X3_breaks : yX3_breaks.cls = RX3 ∧ (yX3_breaks.cls ≠ "java/lang/invoke/MethodHandle" ∧ yX3_breaks.cls ≠ "java/lang/invoke/VarHandle" ∧ (parseMethodDescriptor yX3_breaks.desc).map (fun d => d.parameters.length) = some 1) := by decide +kernel
theorem hdV_X3_keeps : yX3_keeps.cls = RX3 ∧ (yX3_keeps.cls ≠ "java/lang/invoke/MethodHandle" ∧ yX3_keeps.cls ≠ "java/lang/invoke/VarHandle" ∧ (parseMethodDescriptor yX3_keeps.desc).map (fun d => d.parameters.length) = some 1) := by decide +kernel
def C_X1_notches_b37 (Δ : DT) (v : Nat) (p1a : Nat) (p1b : Nat) (σ : ST) (x2 : Int32) (x3 : Int32) (x4 : Int32) (s0 : Int32) : Option (ST × Int32) :=
  (if s0 = 0 then bn1 (C_X3_keeps Δ p1a p1b σ x4) (fun σ_7 => (if x2 = 0 then some (σ_7, 0) else some (σ_7, 3))) else (if x3 = 0 then lt1 (sI σ 9 p1a p1b 8 ((gI σ 9 p1a p1b 8) + 1)) (fun σ_3 => lt1 (sI σ_3 9 p1a p1b 6 (gI σ_3 4 v 0 6)) (fun σ_4 => lt1 (sI σ_4 9 p1a p1b 7 ((gI σ_4 9 p1a p1b 7) - ((gI σ_4 4 v 0 4) * x4))) (fun σ_5 => some (σ_5, 2)))) else bn1 (C_X3_breaks Δ p1a p1b σ x4) (fun σ_6 => some (σ_6, 1))))
theorem w_C_X1_notches_b37 {Δ : DT} {v : Nat} {p1a : Nat} {p1b : Nat} (X : FX p m c meth s args RX1 cX1_notches 6 (some .int)) (K : XK D d A s) {z : ST × Int32} (hk : okC Δ 1 v 0 = true) (hp1 : okC Δ 8 p1a p1b = true) (σ : ST) (x2 : Int32) (x3 : Int32) (x4 : Int32) (s0 : Int32) (kx1 : (okC Δ) 8 p1a p1b = true) (ls : Array Slot) (H : Heap) (locs : List Loc) (O : XH D A s.heap (hC hs) (xct (LC Δ) (okC Δ) (hC hs) d σ) H locs) (hl : lv_has ls 6 [(0, .ref ((hC hs) 1 v 0)), (1, .ref ((hC hs) 8 p1a p1b)), (2, .int x2), (3, .int x3), (4, .int x4)]) (hf : C_X1_notches_b37 Δ v p1a p1b σ x2 x3 x4 s0 = some z) : W p l e (rmD 2 0 0) s m args below meth c H locs 0 0 (MQ below (Qi D (pz z) (cw (hC hs) (LC Δ) (okC Δ) d) A) args s 0 0 A) (F0 m 37 ls [.int s0]) := by
  have hx := X.1.1; have hb := X.1.2.1
  rw [C_X1_notches_b37] at hf
  refine lv_istore (lv' := [(5, .int s0), (0, .ref ((hC hs) 1 v 0)), (1, .ref ((hC hs) 8 p1a p1b)), (2, .int x2), (3, .int x3), (4, .int x4)]) hx hb dX1_notches_37 hl (by decide) rfl (fun ls hl => ?_)
  refine lv_iload hx hb dX1_notches_39 (lv_at hl 0 rfl) ?_
  refine lv_if_ne (tgt := 60) hx hb dX1_notches_41 (by decide) (fun c_1 => ?_) (fun c_1 => ?_)
  · replace hf := if_f c_1 hf
    refine lv_iload_n hx hb dX1_notches_60 rfl (lv_at hl 4 rfl) ?_
    refine lv_if_eq (tgt := 72) hx hb dX1_notches_61 (by decide) (fun c_2 => ?_) (fun c_2 => ?_)
    · replace hf := if_t c_2 hf
      refine lv_aload_n hx hb dX1_notches_72 rfl (lv_at hl 2 rfl) ?_
      refine x_gFN X K O 0 kx1 LC_8 rfl rfl in_X3 (by decide) q277 dX1_notches_73 ?_
      refine lv_bipush (v := 8) hx hb dX1_notches_76 (by decide) ?_
      refine lv_dup2_11 hx hb dX1_notches_78 rfl rfl ?_
      refine x_ild X K O kx1 LC_9 (by decide) (j := 8) rfl dX1_notches_79 ?_
      refine lv_iconst (v := 1) hx hb dX1_notches_80 (by decide) ?_
      refine lv_iadd hx hb dX1_notches_81 ?_
      obtain ⟨σ_3, eσ_3, hf⟩ := lt1_s hf
      refine x_ist X K O kx1 LC_9 (by decide) (j := 8) rfl dX1_notches_82 (fun H locs O => ?_)
      rw [← eσ_3] at O
      refine lv_aload_n hx hb dX1_notches_83 rfl (lv_at hl 2 rfl) ?_
      refine x_gFN X K O 0 kx1 LC_8 rfl rfl in_X3 (by decide) q277 dX1_notches_84 ?_
      refine lv_bipush (v := 6) hx hb dX1_notches_87 (by decide) ?_
      refine lv_aload_n hx hb dX1_notches_89 rfl (lv_at hl 1 rfl) ?_
      refine x_gF X K O 2 hk LC_1 rfl rfl in_X1 (by decide) q298 dX1_notches_90 ?_
      refine lv_bipush (v := 6) hx hb dX1_notches_93 (by decide) ?_
      refine x_ild X K O hk LC_4 (by decide) (j := 6) rfl dX1_notches_95 ?_
      obtain ⟨σ_4, eσ_4, hf⟩ := lt1_s hf
      refine x_ist X K O kx1 LC_9 (by decide) (j := 6) rfl dX1_notches_96 (fun H locs O => ?_)
      rw [← eσ_4] at O
      refine lv_aload_n hx hb dX1_notches_97 rfl (lv_at hl 2 rfl) ?_
      refine x_gFN X K O 0 kx1 LC_8 rfl rfl in_X3 (by decide) q277 dX1_notches_98 ?_
      refine lv_bipush (v := 7) hx hb dX1_notches_101 (by decide) ?_
      refine lv_dup2_11 hx hb dX1_notches_103 rfl rfl ?_
      refine x_ild X K O kx1 LC_9 (by decide) (j := 7) rfl dX1_notches_104 ?_
      refine lv_aload_n hx hb dX1_notches_105 rfl (lv_at hl 1 rfl) ?_
      refine x_gF X K O 2 hk LC_1 rfl rfl in_X1 (by decide) q298 dX1_notches_106 ?_
      refine lv_iconst (v := 4) hx hb dX1_notches_109 (by decide) ?_
      refine x_ild X K O hk LC_4 (by decide) (j := 4) rfl dX1_notches_110 ?_
      refine lv_iload hx hb dX1_notches_111 (lv_at hl 5 rfl) ?_
      refine lv_imul hx hb dX1_notches_113 ?_
      refine lv_isub hx hb dX1_notches_114 ?_
      obtain ⟨σ_5, eσ_5, hf⟩ := lt1_s hf
      refine x_ist X K O kx1 LC_9 (by decide) (j := 7) rfl dX1_notches_115 (fun H locs O => ?_)
      rw [← eσ_5] at O
      refine lv_iconst (v := 2) hx hb dX1_notches_116 (by decide) ?_
      exact x_iret X O rfl _ (Option.some.inj hf).symm rfl dX1_notches_117
    · replace hf := if_f c_2 hf
      refine lv_aload_n hx hb dX1_notches_64 rfl (lv_at hl 2 rfl) ?_
      refine lv_iload hx hb dX1_notches_65 (lv_at hl 5 rfl) ?_
      obtain ⟨σ_6, hg, hf⟩ := bn1_s hf
      refine x_callv (x_runV (As := [.int x4]) (rest := []) X K O (xct_obj kx1 LC_8) rfl (m_C_X3_breaks kx1 hg) EN_b EN_h (lw_V q908 q909 q910 q121 q911) 1 rfl hl.1 (Nat.le_of_ble_eq_true rfl) hdV_X3_breaks ⟨by decide, by decide⟩ ⟨Nat.le_refl _, Nat.le_refl _⟩ dX1_notches_67) (fun u H locs hp O _ => ?_)
      cases hp
      have O : XH D A s.heap (hC hs) (xct (LC Δ) (okC Δ) (hC hs) d σ_6) H locs := O
      refine lv_iconst (v := 1) hx hb dX1_notches_70 (by decide) ?_
      exact x_iret X O rfl _ (Option.some.inj hf).symm rfl dX1_notches_71
  · replace hf := if_t c_1 hf
    refine lv_aload_n hx hb dX1_notches_44 rfl (lv_at hl 2 rfl) ?_
    refine lv_iload hx hb dX1_notches_45 (lv_at hl 5 rfl) ?_
    obtain ⟨σ_7, hg, hf⟩ := bn1_s hf
    refine x_callv (x_runV (As := [.int x4]) (rest := []) X K O (xct_obj kx1 LC_8) rfl (m_C_X3_keeps kx1 hg) EN_b EN_h (lw_V q903 q904 q905 q121 q906) 1 rfl hl.1 (Nat.le_of_ble_eq_true rfl) hdV_X3_keeps ⟨by decide, by decide⟩ ⟨Nat.le_refl _, Nat.le_refl _⟩ dX1_notches_47) (fun u H locs hp O _ => ?_)
    cases hp
    have O : XH D A s.heap (hC hs) (xct (LC Δ) (okC Δ) (hC hs) d σ_7) H locs := O
    refine lv_iload_n hx hb dX1_notches_50 rfl (lv_at hl 3 rfl) ?_
    refine lv_if_eq (tgt := 58) hx hb dX1_notches_51 (by decide) (fun c_8 => ?_) (fun c_8 => ?_)
    · replace hf := if_t c_8 hf
      refine lv_iconst (v := 0) hx hb dX1_notches_58 (by decide) ?_
      exact x_iret X O rfl _ (Option.some.inj hf).symm rfl dX1_notches_59
    · replace hf := if_f c_8 hf
      refine lv_iconst (v := 3) hx hb dX1_notches_54 (by decide) ?_
      refine lv_goto (tgt := 59) hx hb dX1_notches_55 (by decide) ?_
      exact x_iret X O rfl _ (Option.some.inj hf).symm rfl dX1_notches_59
def C_X1_notches_b36 (Δ : DT) (v : Nat) (p1a : Nat) (p1b : Nat) (σ : ST) (x2 : Int32) (x3 : Int32) (x4 : Int32) : Option (ST × Int32) :=
  C_X1_notches_b37 Δ v p1a p1b σ x2 x3 x4 0
theorem w_C_X1_notches_b36 {Δ : DT} {v : Nat} {p1a : Nat} {p1b : Nat} (X : FX p m c meth s args RX1 cX1_notches 6 (some .int)) (K : XK D d A s) {z : ST × Int32} (hk : okC Δ 1 v 0 = true) (hp1 : okC Δ 8 p1a p1b = true) (σ : ST) (x2 : Int32) (x3 : Int32) (x4 : Int32) (kx1 : (okC Δ) 8 p1a p1b = true) (ls : Array Slot) (H : Heap) (locs : List Loc) (O : XH D A s.heap (hC hs) (xct (LC Δ) (okC Δ) (hC hs) d σ) H locs) (hl : lv_has ls 6 [(0, .ref ((hC hs) 1 v 0)), (1, .ref ((hC hs) 8 p1a p1b)), (2, .int x2), (3, .int x3), (4, .int x4)]) (hf : C_X1_notches_b36 Δ v p1a p1b σ x2 x3 x4 = some z) : W p l e (rmD 2 0 0) s m args below meth c H locs 0 0 (MQ below (Qi D (pz z) (cw (hC hs) (LC Δ) (okC Δ) d) A) args s 0 0 A) (F0 m 36 ls []) := by
  have hx := X.1.1; have hb := X.1.2.1
  rw [C_X1_notches_b36] at hf
  refine lv_iconst (v := 0) hx hb dX1_notches_36 (by decide) ?_
  exact w_C_X1_notches_b37 X K hk hp1 _ _ _ _ _ kx1 ls _ _ O (lv_sub hl [0, 1, 2, 3, 4] rfl) hf
def C_X1_notches_b32 (Δ : DT) (v : Nat) (p1a : Nat) (p1b : Nat) (σ : ST) (x2 : Int32) (x3 : Int32) (x4 : Int32) : Option (ST × Int32) :=
  C_X1_notches_b37 Δ v p1a p1b σ x2 x3 x4 1
theorem w_C_X1_notches_b32 {Δ : DT} {v : Nat} {p1a : Nat} {p1b : Nat} (X : FX p m c meth s args RX1 cX1_notches 6 (some .int)) (K : XK D d A s) {z : ST × Int32} (hk : okC Δ 1 v 0 = true) (hp1 : okC Δ 8 p1a p1b = true) (σ : ST) (x2 : Int32) (x3 : Int32) (x4 : Int32) (kx1 : (okC Δ) 8 p1a p1b = true) (ls : Array Slot) (H : Heap) (locs : List Loc) (O : XH D A s.heap (hC hs) (xct (LC Δ) (okC Δ) (hC hs) d σ) H locs) (hl : lv_has ls 6 [(0, .ref ((hC hs) 1 v 0)), (1, .ref ((hC hs) 8 p1a p1b)), (2, .int x2), (3, .int x3), (4, .int x4)]) (hf : C_X1_notches_b32 Δ v p1a p1b σ x2 x3 x4 = some z) : W p l e (rmD 2 0 0) s m args below meth c H locs 0 0 (MQ below (Qi D (pz z) (cw (hC hs) (LC Δ) (okC Δ) d) A) args s 0 0 A) (F0 m 32 ls []) := by
  have hx := X.1.1; have hb := X.1.2.1
  rw [C_X1_notches_b32] at hf
  refine lv_iconst (v := 1) hx hb dX1_notches_32 (by decide) ?_
  refine lv_goto (tgt := 37) hx hb dX1_notches_33 (by decide) ?_
  exact w_C_X1_notches_b37 X K hk hp1 _ _ _ _ _ kx1 ls _ _ O (lv_sub hl [0, 1, 2, 3, 4] rfl) hf
def C_X1_notches (Δ : DT) (v : Nat) (p1a : Nat) (p1b : Nat) (σ : ST) (p2 : Int32) (p3 : Int32) (p4 : Int32) : Option (ST × Int32) :=
  (if p2 = 0 then C_X1_notches_b36 Δ v p1a p1b σ p2 p3 p4 else (if (gI σ 4 v 0 5) = 1000 then C_X1_notches_b32 Δ v p1a p1b σ p2 p3 p4 else bn2 (C_X1_draw Δ v σ 1000) (fun σ_3 r_4 => (if (gI σ_3 4 v 0 5) ≤ r_4 then C_X1_notches_b36 Δ v p1a p1b σ_3 p2 p3 p4 else C_X1_notches_b32 Δ v p1a p1b σ_3 p2 p3 p4))))
theorem m_C_X1_notches {l : Launch} {D : va_G} {d : Nat → ClassId} {hs : IX} {Δ : DT} {v : Nat} {p1a : Nat} {p1b : Nat} {p2 : Int32} {p3 : Int32} {p4 : Int32} {σ : ST} {z : ST × Int32} (hk : okC Δ 1 v 0 = true) (hp1 : okC Δ 8 p1a p1b = true) (hf : C_X1_notches Δ v p1a p1b σ p2 p3 p4 = some z) : XM l D d EN yX1_notches cX1_notches 6 (some .int) 2 0 0 [.ref ((hC hs) 1 v 0), .ref ((hC hs) 8 p1a p1b), .int p2, .int p3, .int p4] (hC hs) (xct (LC Δ) (okC Δ) (hC hs) d σ) (Qi D (pz z) (cw (hC hs) (LC Δ) (okC Δ) d)) := by
  refine XM.of (by decide +kernel) (Nat.le_of_ble_eq_true rfl) ?_
  intro p e s m below meth c A ls X _ K _ O hl
  have hl : lv_has ls 6 [(0, .ref ((hC hs) 1 v 0)), (1, .ref ((hC hs) 8 p1a p1b)), (2, .int p2), (3, .int p3), (4, .int p4)] := hl
  have hx := X.1.1; have hb := X.1.2.1
  rw [C_X1_notches] at hf
  refine lv_iload_n hx hb dX1_notches_0 rfl (lv_at hl 2 rfl) ?_
  refine lv_if_eq (tgt := 36) hx hb dX1_notches_1 (by decide) (fun c_1 => ?_) (fun c_1 => ?_)
  · replace hf := if_t c_1 hf
    exact w_C_X1_notches_b36 X K hk hp1 _ _ _ _ hp1 ls _ _ O (lv_sub hl [0, 1, 2, 3, 4] rfl) hf
  · replace hf := if_f c_1 hf
    refine lv_aload_n hx hb dX1_notches_4 rfl (lv_at hl 0 rfl) ?_
    refine x_gF X K O 2 hk LC_1 rfl rfl in_X1 (by decide) q298 dX1_notches_5 ?_
    refine lv_iconst (v := 5) hx hb dX1_notches_8 (by decide) ?_
    refine x_ild X K O hk LC_4 (by decide) (j := 5) rfl dX1_notches_9 ?_
    refine lv_sipush (v := 1000) hx hb dX1_notches_10 (by decide) ?_
    refine lv_icmp_eq (tgt := 32) hx hb dX1_notches_13 (by decide) (fun c_2 => ?_) (fun c_2 => ?_)
    · replace hf := if_t c_2 hf
      exact w_C_X1_notches_b32 X K hk hp1 _ _ _ _ hp1 ls _ _ O (lv_sub hl [0, 1, 2, 3, 4] rfl) hf
    · replace hf := if_f c_2 hf
      refine lv_aload_n hx hb dX1_notches_16 rfl (lv_at hl 0 rfl) ?_
      refine lv_sipush (v := 1000) hx hb dX1_notches_17 (by decide) ?_
      obtain ⟨σ_3, r_4, hg, hf⟩ := bn2_s hf
      refine x_calli (x_runV (As := [.int 1000]) (rest := []) X K O (xct_obj hk LC_1) rfl (m_C_X1_draw hk hg) EN_b EN_h (lw_V q897 q899 qs27 q119 q900) 1 rfl hl.1 (Nat.le_of_ble_eq_true rfl) hdV_X1_draw ⟨by decide, by decide⟩ ⟨Nat.le_refl _, Nat.le_refl _⟩ dX1_notches_20) (fun r u H locs hp O _ => ?_)
      cases hp
      have O : XH D A s.heap (hC hs) (xct (LC Δ) (okC Δ) (hC hs) d σ_3) H locs := O
      refine lv_aload_n hx hb dX1_notches_23 rfl (lv_at hl 0 rfl) ?_
      refine x_gF X K O 2 hk LC_1 rfl rfl in_X1 (by decide) q298 dX1_notches_24 ?_
      refine lv_iconst (v := 5) hx hb dX1_notches_27 (by decide) ?_
      refine x_ild X K O hk LC_4 (by decide) (j := 5) rfl dX1_notches_28 ?_
      refine lv_icmp_ge (tgt := 36) hx hb dX1_notches_29 (by decide) (fun c_5 => ?_) (fun c_5 => ?_)
      · replace hf := if_t c_5 hf
        exact w_C_X1_notches_b36 X K hk hp1 _ _ _ _ hp1 ls _ _ O (lv_sub hl [0, 1, 2, 3, 4] rfl) hf
      · replace hf := if_f c_5 hf
        exact w_C_X1_notches_b32 X K hk hp1 _ _ _ _ hp1 ls _ _ O (lv_sub hl [0, 1, 2, 3, 4] rfl) hf
theorem hdV_X1_breaks : yX1_breaks.cls = RX1 ∧ (yX1_breaks.cls ≠ "java/lang/invoke/MethodHandle" ∧ yX1_breaks.cls ≠ "java/lang/invoke/VarHandle" ∧ (parseMethodDescriptor yX1_breaks.desc).map (fun d => d.parameters.length) = some 3) := by decide +kernel
theorem hdV_X1_deals : yX1_deals.cls = RX1 ∧ (yX1_deals.cls ≠ "java/lang/invoke/MethodHandle" ∧ yX1_deals.cls ≠ "java/lang/invoke/VarHandle" ∧ (parseMethodDescriptor yX1_deals.desc).map (fun d => d.parameters.length) = some 3) := by decide +kernel
theorem hdV_X1_isOut : yX1_isOut.cls = RX1 ∧ (yX1_isOut.cls ≠ "java/lang/invoke/MethodHandle" ∧ yX1_isOut.cls ≠ "java/lang/invoke/VarHandle" ∧ (parseMethodDescriptor yX1_isOut.desc).map (fun d => d.parameters.length) = some 1) := by decide +kernel
theorem hdV_X1_notches : yX1_notches.cls = RX1 ∧ (yX1_notches.cls ≠ "java/lang/invoke/MethodHandle" ∧ yX1_notches.cls ≠ "java/lang/invoke/VarHandle" ∧ (parseMethodDescriptor yX1_notches.desc).map (fun d => d.parameters.length) = some 4) := by decide +kernel
theorem hdV_X1_worth : yX1_worth.cls = RX1 ∧ (yX1_worth.cls ≠ "java/lang/invoke/MethodHandle" ∧ yX1_worth.cls ≠ "java/lang/invoke/VarHandle" ∧ (parseMethodDescriptor yX1_worth.desc).map (fun d => d.parameters.length) = some 2) := by decide +kernel
def C_X1_deal_b25 (Δ : DT) (v : Nat) (σ : ST) (x1 : Int32) (x2 : Int32) (x3 : Int32) (s0 : Int32) : Option (ST × Int32) :=
  bn2 (C_X1_breaks Δ v σ x1 x2 x3) (fun σ_1 r_2 => bn2 (C_X1_breaks Δ v σ_1 x2 x1 x3) (fun σ_3 r_4 => bn2 (C_X1_isLawful Δ v σ_3 x1 x3) (fun σ_5 r_6 => bn2 (C_X1_isLawful Δ v σ_5 x2 x3) (fun σ_7 r_8 => (if s0 = 0 then some (σ_7, (-1)) else bn2 (C_X1_isOut Δ v σ_7 x1) (fun σ_10 r_11 => (if r_11 = 0 then bn2 (C_X1_isOut Δ v σ_10 x2) (fun σ_13 r_14 => (if r_14 = 0 then (if (gI σ_13 1 v 0 6) = 300 then some (σ_13, (-1)) else ck (okI (gI σ_13 1 v 0 6) 300) (lt1 (sI σ_13 11 v (Int32.toNatClampNeg (gI σ_13 1 v 0 6)) 0 (gI σ_13 1 v 0 7)) (fun σ_18 => lt1 (sI σ_18 11 v (Int32.toNatClampNeg (gI σ_13 1 v 0 6)) 1 x1) (fun σ_19 => lt1 (sI σ_19 11 v (Int32.toNatClampNeg (gI σ_13 1 v 0 6)) 2 x2) (fun σ_20 => lt1 (sI σ_20 11 v (Int32.toNatClampNeg (gI σ_13 1 v 0 6)) 3 x3) (fun σ_21 => ck (okI x1 12) (lt1 (sI σ_21 11 v (Int32.toNatClampNeg (gI σ_13 1 v 0 6)) 6 (gI σ_21 9 v (Int32.toNatClampNeg x1) 1)) (fun σ_23 => ck (okI x2 12) (lt1 (sI σ_23 11 v (Int32.toNatClampNeg (gI σ_13 1 v 0 6)) 7 (gI σ_23 9 v (Int32.toNatClampNeg x2) 1)) (fun σ_25 => ck (okI x1 12) (bn2 (C_X1_worth Δ v σ_25 r_2 r_4) (fun σ_27 r_28 => lt1 (sI σ_27 9 v (Int32.toNatClampNeg x1) 7 ((gI σ_25 9 v (Int32.toNatClampNeg x1) 7) + (r_28 * x3))) (fun σ_29 => ck (okI x2 12) (bn2 (C_X1_worth Δ v σ_29 r_4 r_2) (fun σ_31 r_32 => lt1 (sI σ_31 9 v (Int32.toNatClampNeg x2) 7 ((gI σ_29 9 v (Int32.toNatClampNeg x2) 7) + (r_32 * x3))) (fun σ_33 => ck (okI x1 12) (bn2 (C_X1_notches Δ v v (Int32.toNatClampNeg x1) σ_33 r_2 r_6 x3) (fun σ_35 r_36 => lt1 (sI σ_35 11 v (Int32.toNatClampNeg (gI σ_13 1 v 0 6)) 4 r_36) (fun σ_37 => ck (okI x2 12) (bn2 (C_X1_notches Δ v v (Int32.toNatClampNeg x2) σ_37 r_4 r_8 x3) (fun σ_39 r_40 => lt1 (sI σ_39 11 v (Int32.toNatClampNeg (gI σ_13 1 v 0 6)) 5 r_40) (fun σ_41 => lt1 (sI σ_41 1 v 0 6 ((gI σ_41 1 v 0 6) + 1)) (fun σ_42 => some (σ_42, ((gI σ_42 1 v 0 6) - 1))))))))))))))))))))))))) else some (σ_13, (-1)))) else some (σ_10, (-1)))))))))
theorem w_C_X1_deal_b25 {Δ : DT} {v : Nat} (X : FX p m c meth s args RX1 cX1_deal 10 (some .int)) (K : XK D d A s) {z : ST × Int32} (hk : okC Δ 1 v 0 = true) (σ : ST) (x1 : Int32) (x2 : Int32) (x3 : Int32) (s0 : Int32) (ls : Array Slot) (H : Heap) (locs : List Loc) (O : XH D A s.heap (hC hs) (xct (LC Δ) (okC Δ) (hC hs) d σ) H locs) (hl : lv_has ls 10 [(0, .ref ((hC hs) 1 v 0)), (1, .int x1), (2, .int x2), (3, .int x3)]) (hf : C_X1_deal_b25 Δ v σ x1 x2 x3 s0 = some z) : W p l e (rmD 846 0 0) s m args below meth c H locs 0 0 (MQ below (Qi D (pz z) (cw (hC hs) (LC Δ) (okC Δ) d) A) args s 0 0 A) (F0 m 25 ls [.int s0]) := by
  have hx := X.1.1; have hb := X.1.2.1
  rw [C_X1_deal_b25] at hf
  refine lv_istore (lv' := [(4, .int s0), (0, .ref ((hC hs) 1 v 0)), (1, .int x1), (2, .int x2), (3, .int x3)]) hx hb dX1_deal_25 hl (by decide) rfl (fun ls hl => ?_)
  refine lv_aload_n hx hb dX1_deal_27 rfl (lv_at hl 1 rfl) ?_
  refine lv_iload_n hx hb dX1_deal_28 rfl (lv_at hl 2 rfl) ?_
  refine lv_iload_n hx hb dX1_deal_29 rfl (lv_at hl 3 rfl) ?_
  refine lv_iload_n hx hb dX1_deal_30 rfl (lv_at hl 4 rfl) ?_
  obtain ⟨σ_1, r_2, hg, hf⟩ := bn2_s hf
  refine x_calli (x_runV (As := [.int x1, .int x2, .int x3]) (rest := []) X K O (xct_obj hk LC_1) rfl (m_C_X1_breaks hk hg) EN_b EN_h (lw_V q883 q870 q871 q119 q872) 3 rfl hl.1 (Nat.le_of_ble_eq_true rfl) hdV_X1_breaks ⟨by decide, by decide⟩ ⟨Nat.le_refl _, Nat.le_refl _⟩ dX1_deal_31) (fun r u H locs hp O _ => ?_)
  cases hp
  have O : XH D A s.heap (hC hs) (xct (LC Δ) (okC Δ) (hC hs) d σ_1) H locs := O
  refine lv_istore (lv' := [(5, .int r_2), (4, .int s0), (0, .ref ((hC hs) 1 v 0)), (1, .int x1), (2, .int x2), (3, .int x3)]) hx hb dX1_deal_34 hl (by decide) rfl (fun ls hl => ?_)
  refine lv_aload_n hx hb dX1_deal_36 rfl (lv_at hl 2 rfl) ?_
  refine lv_iload_n hx hb dX1_deal_37 rfl (lv_at hl 4 rfl) ?_
  refine lv_iload_n hx hb dX1_deal_38 rfl (lv_at hl 3 rfl) ?_
  refine lv_iload_n hx hb dX1_deal_39 rfl (lv_at hl 5 rfl) ?_
  obtain ⟨σ_3, r_4, hg, hf⟩ := bn2_s hf
  refine x_calli (x_runV (As := [.int x2, .int x1, .int x3]) (rest := []) X K O (xct_obj hk LC_1) rfl (m_C_X1_breaks hk hg) EN_b EN_h (lw_V q883 q870 q871 q119 q872) 3 rfl hl.1 (Nat.le_of_ble_eq_true rfl) hdV_X1_breaks ⟨by decide, by decide⟩ ⟨Nat.le_refl _, Nat.le_refl _⟩ dX1_deal_40) (fun r u H locs hp O _ => ?_)
  cases hp
  have O : XH D A s.heap (hC hs) (xct (LC Δ) (okC Δ) (hC hs) d σ_3) H locs := O
  refine lv_istore (lv' := [(6, .int r_4), (5, .int r_2), (4, .int s0), (0, .ref ((hC hs) 1 v 0)), (1, .int x1), (2, .int x2), (3, .int x3)]) hx hb dX1_deal_43 hl (by decide) rfl (fun ls hl => ?_)
  refine lv_aload_n hx hb dX1_deal_45 rfl (lv_at hl 3 rfl) ?_
  refine lv_iload_n hx hb dX1_deal_46 rfl (lv_at hl 4 rfl) ?_
  refine lv_iload_n hx hb dX1_deal_47 rfl (lv_at hl 6 rfl) ?_
  obtain ⟨σ_5, r_6, hg, hf⟩ := bn2_s hf
  refine x_calli (x_runV (As := [.int x1, .int x3]) (rest := []) X K O (xct_obj hk LC_1) rfl (m_C_X1_isLawful hk hg) EN_b EN_h (lw_V q884 q855 q856 q119 q857) 2 rfl hl.1 (Nat.le_of_ble_eq_true rfl) hdV_X1_isLawful ⟨by decide, by decide⟩ ⟨Nat.le_refl _, Nat.le_refl _⟩ dX1_deal_48) (fun r u H locs hp O _ => ?_)
  cases hp
  have O : XH D A s.heap (hC hs) (xct (LC Δ) (okC Δ) (hC hs) d σ_5) H locs := O
  refine lv_istore (lv' := [(7, .int r_6), (6, .int r_4), (5, .int r_2), (4, .int s0), (0, .ref ((hC hs) 1 v 0)), (1, .int x1), (2, .int x2), (3, .int x3)]) hx hb dX1_deal_51 hl (by decide) rfl (fun ls hl => ?_)
  refine lv_aload_n hx hb dX1_deal_53 rfl (lv_at hl 4 rfl) ?_
  refine lv_iload_n hx hb dX1_deal_54 rfl (lv_at hl 6 rfl) ?_
  refine lv_iload_n hx hb dX1_deal_55 rfl (lv_at hl 7 rfl) ?_
  obtain ⟨σ_7, r_8, hg, hf⟩ := bn2_s hf
  refine x_calli (x_runV (As := [.int x2, .int x3]) (rest := []) X K O (xct_obj hk LC_1) rfl (m_C_X1_isLawful hk hg) EN_b EN_h (lw_V q884 q855 q856 q119 q857) 2 rfl hl.1 (Nat.le_of_ble_eq_true rfl) hdV_X1_isLawful ⟨by decide, by decide⟩ ⟨Nat.le_refl _, Nat.le_refl _⟩ dX1_deal_56) (fun r u H locs hp O _ => ?_)
  cases hp
  have O : XH D A s.heap (hC hs) (xct (LC Δ) (okC Δ) (hC hs) d σ_7) H locs := O
  refine lv_istore (lv' := [(8, .int r_8), (7, .int r_6), (6, .int r_4), (5, .int r_2), (4, .int s0), (0, .ref ((hC hs) 1 v 0)), (1, .int x1), (2, .int x2), (3, .int x3)]) hx hb dX1_deal_59 hl (by decide) rfl (fun ls hl => ?_)
  refine lv_iload hx hb dX1_deal_61 (lv_at hl 4 rfl) ?_
  refine lv_if_eq (tgt := 92) hx hb dX1_deal_63 (by decide) (fun c_9 => ?_) (fun c_9 => ?_)
  · replace hf := if_t c_9 hf
    refine lv_iconst (v := (-1)) hx hb dX1_deal_92 (by decide) ?_
    exact x_iret X O rfl _ (Option.some.inj hf).symm rfl dX1_deal_93
  · replace hf := if_f c_9 hf
    refine lv_aload_n hx hb dX1_deal_66 rfl (lv_at hl 5 rfl) ?_
    refine lv_iload_n hx hb dX1_deal_67 rfl (lv_at hl 6 rfl) ?_
    obtain ⟨σ_10, r_11, hg, hf⟩ := bn2_s hf
    refine x_calli (x_runV (As := [.int x1]) (rest := []) X K O (xct_obj hk LC_1) rfl (m_C_X1_isOut hk hg) EN_b EN_h (lw_V q885 q886 q887 q119 q888) 1 rfl hl.1 (Nat.le_of_ble_eq_true rfl) hdV_X1_isOut ⟨by decide, by decide⟩ ⟨Nat.le_refl _, Nat.le_refl _⟩ dX1_deal_68) (fun r u H locs hp O _ => ?_)
    cases hp
    have O : XH D A s.heap (hC hs) (xct (LC Δ) (okC Δ) (hC hs) d σ_10) H locs := O
    refine lv_if_ne (tgt := 92) hx hb dX1_deal_71 (by decide) (fun c_12 => ?_) (fun c_12 => ?_)
    · replace hf := if_f c_12 hf
      refine lv_iconst (v := (-1)) hx hb dX1_deal_92 (by decide) ?_
      exact x_iret X O rfl _ (Option.some.inj hf).symm rfl dX1_deal_93
    · replace hf := if_t c_12 hf
      refine lv_aload_n hx hb dX1_deal_74 rfl (lv_at hl 5 rfl) ?_
      refine lv_iload_n hx hb dX1_deal_75 rfl (lv_at hl 7 rfl) ?_
      obtain ⟨σ_13, r_14, hg, hf⟩ := bn2_s hf
      refine x_calli (x_runV (As := [.int x2]) (rest := []) X K O (xct_obj hk LC_1) rfl (m_C_X1_isOut hk hg) EN_b EN_h (lw_V q885 q886 q887 q119 q888) 1 rfl hl.1 (Nat.le_of_ble_eq_true rfl) hdV_X1_isOut ⟨by decide, by decide⟩ ⟨Nat.le_refl _, Nat.le_refl _⟩ dX1_deal_76) (fun r u H locs hp O _ => ?_)
      cases hp
      have O : XH D A s.heap (hC hs) (xct (LC Δ) (okC Δ) (hC hs) d σ_13) H locs := O
      refine lv_if_ne (tgt := 92) hx hb dX1_deal_79 (by decide) (fun c_15 => ?_) (fun c_15 => ?_)
      · replace hf := if_f c_15 hf
        refine lv_iconst (v := (-1)) hx hb dX1_deal_92 (by decide) ?_
        exact x_iret X O rfl _ (Option.some.inj hf).symm rfl dX1_deal_93
      · replace hf := if_t c_15 hf
        refine lv_aload_n hx hb dX1_deal_82 rfl (lv_at hl 5 rfl) ?_
        refine x_gI X K O 6 hk LC_1 rfl rfl in_X1 (by decide) q305 dX1_deal_83 ?_
        refine lv_sipush (v := 300) hx hb dX1_deal_86 (by decide) ?_
        refine lv_icmp_ne (tgt := 94) hx hb dX1_deal_89 (by decide) (fun c_16 => ?_) (fun c_16 => ?_)
        · replace hf := if_f c_16 hf
          refine lv_aload_n hx hb dX1_deal_94 rfl (lv_at hl 5 rfl) ?_
          refine x_gF X K O 1 hk LC_1 rfl rfl in_X1 (by decide) q296 dX1_deal_95 ?_
          refine lv_aload_n hx hb dX1_deal_98 rfl (lv_at hl 5 rfl) ?_
          refine x_gI X K O 6 hk LC_1 rfl rfl in_X1 (by decide) q305 dX1_deal_99 ?_
          obtain ⟨c_17, hf⟩ := ck_s hf
          refine x_ald X K O 4 hk LC_6 (by decide) rfl rfl c_17 (j := (Int32.toNatClampNeg (gI σ_13 1 v 0 6))) rfl dX1_deal_102 ?_
          refine x_gFN X K O 0 (oks_b hk (okI_lt c_17)) LC_10 rfl rfl in_X4 (by decide) q288 dX1_deal_103 ?_
          refine lv_astore (lv' := [(9, .ref ((hC hs) 11 v (Int32.toNatClampNeg (gI σ_13 1 v 0 6)))), (8, .int r_8), (7, .int r_6), (6, .int r_4), (5, .int r_2), (4, .int s0), (0, .ref ((hC hs) 1 v 0)), (1, .int x1), (2, .int x2), (3, .int x3)]) hx hb dX1_deal_106 hl (by decide) rfl (fun ls hl => ?_)
          refine lv_aload hx hb dX1_deal_108 (lv_at hl 0 rfl) ?_
          refine lv_iconst (v := 0) hx hb dX1_deal_110 (by decide) ?_
          refine lv_aload_n hx hb dX1_deal_111 rfl (lv_at hl 6 rfl) ?_
          refine x_gI X K O 7 hk LC_1 rfl rfl in_X1 (by decide) q307 dX1_deal_112 ?_
          obtain ⟨σ_18, eσ_18, hf⟩ := lt1_s hf
          refine x_ist X K O (oks_b hk (okI_lt c_17)) LC_11 (by decide) (j := 0) rfl dX1_deal_115 (fun H locs O => ?_)
          rw [← eσ_18] at O
          refine lv_aload hx hb dX1_deal_116 (lv_at hl 0 rfl) ?_
          refine lv_iconst (v := 1) hx hb dX1_deal_118 (by decide) ?_
          refine lv_iload_n hx hb dX1_deal_119 rfl (lv_at hl 7 rfl) ?_
          obtain ⟨σ_19, eσ_19, hf⟩ := lt1_s hf
          refine x_ist X K O (oks_b hk (okI_lt c_17)) LC_11 (by decide) (j := 1) rfl dX1_deal_120 (fun H locs O => ?_)
          rw [← eσ_19] at O
          refine lv_aload hx hb dX1_deal_121 (lv_at hl 0 rfl) ?_
          refine lv_iconst (v := 2) hx hb dX1_deal_123 (by decide) ?_
          refine lv_iload_n hx hb dX1_deal_124 rfl (lv_at hl 8 rfl) ?_
          obtain ⟨σ_20, eσ_20, hf⟩ := lt1_s hf
          refine x_ist X K O (oks_b hk (okI_lt c_17)) LC_11 (by decide) (j := 2) rfl dX1_deal_125 (fun H locs O => ?_)
          rw [← eσ_20] at O
          refine lv_aload hx hb dX1_deal_126 (lv_at hl 0 rfl) ?_
          refine lv_iconst (v := 3) hx hb dX1_deal_128 (by decide) ?_
          refine lv_iload_n hx hb dX1_deal_129 rfl (lv_at hl 9 rfl) ?_
          obtain ⟨σ_21, eσ_21, hf⟩ := lt1_s hf
          refine x_ist X K O (oks_b hk (okI_lt c_17)) LC_11 (by decide) (j := 3) rfl dX1_deal_130 (fun H locs O => ?_)
          rw [← eσ_21] at O
          refine lv_aload hx hb dX1_deal_131 (lv_at hl 0 rfl) ?_
          refine lv_bipush (v := 6) hx hb dX1_deal_133 (by decide) ?_
          refine lv_aload_n hx hb dX1_deal_135 rfl (lv_at hl 6 rfl) ?_
          refine x_gF X K O 0 hk LC_1 rfl rfl in_X1 (by decide) q293 dX1_deal_136 ?_
          refine lv_iload_n hx hb dX1_deal_139 rfl (lv_at hl 7 rfl) ?_
          obtain ⟨c_22, hf⟩ := ck_s hf
          refine x_ald X K O 3 hk LC_5 (by decide) rfl rfl c_22 (j := (Int32.toNatClampNeg x1)) rfl dX1_deal_140 ?_
          refine x_gFN X K O 0 (oks_b hk (okI_lt c_22)) LC_8 rfl rfl in_X3 (by decide) q277 dX1_deal_141 ?_
          refine lv_iconst (v := 1) hx hb dX1_deal_144 (by decide) ?_
          refine x_ild X K O (oks_b hk (okI_lt c_22)) LC_9 (by decide) (j := 1) rfl dX1_deal_145 ?_
          obtain ⟨σ_23, eσ_23, hf⟩ := lt1_s hf
          refine x_ist X K O (oks_b hk (okI_lt c_17)) LC_11 (by decide) (j := 6) rfl dX1_deal_146 (fun H locs O => ?_)
          rw [← eσ_23] at O
          refine lv_aload hx hb dX1_deal_147 (lv_at hl 0 rfl) ?_
          refine lv_bipush (v := 7) hx hb dX1_deal_149 (by decide) ?_
          refine lv_aload_n hx hb dX1_deal_151 rfl (lv_at hl 6 rfl) ?_
          refine x_gF X K O 0 hk LC_1 rfl rfl in_X1 (by decide) q293 dX1_deal_152 ?_
          refine lv_iload_n hx hb dX1_deal_155 rfl (lv_at hl 8 rfl) ?_
          obtain ⟨c_24, hf⟩ := ck_s hf
          refine x_ald X K O 3 hk LC_5 (by decide) rfl rfl c_24 (j := (Int32.toNatClampNeg x2)) rfl dX1_deal_156 ?_
          refine x_gFN X K O 0 (oks_b hk (okI_lt c_24)) LC_8 rfl rfl in_X3 (by decide) q277 dX1_deal_157 ?_
          refine lv_iconst (v := 1) hx hb dX1_deal_160 (by decide) ?_
          refine x_ild X K O (oks_b hk (okI_lt c_24)) LC_9 (by decide) (j := 1) rfl dX1_deal_161 ?_
          obtain ⟨σ_25, eσ_25, hf⟩ := lt1_s hf
          refine x_ist X K O (oks_b hk (okI_lt c_17)) LC_11 (by decide) (j := 7) rfl dX1_deal_162 (fun H locs O => ?_)
          rw [← eσ_25] at O
          refine lv_aload_n hx hb dX1_deal_163 rfl (lv_at hl 6 rfl) ?_
          refine x_gF X K O 0 hk LC_1 rfl rfl in_X1 (by decide) q293 dX1_deal_164 ?_
          refine lv_iload_n hx hb dX1_deal_167 rfl (lv_at hl 7 rfl) ?_
          obtain ⟨c_26, hf⟩ := ck_s hf
          refine x_ald X K O 3 hk LC_5 (by decide) rfl rfl c_26 (j := (Int32.toNatClampNeg x1)) rfl dX1_deal_168 ?_
          refine x_gFN X K O 0 (oks_b hk (okI_lt c_26)) LC_8 rfl rfl in_X3 (by decide) q277 dX1_deal_169 ?_
          refine lv_bipush (v := 7) hx hb dX1_deal_172 (by decide) ?_
          refine lv_dup2_11 hx hb dX1_deal_174 rfl rfl ?_
          refine x_ild X K O (oks_b hk (okI_lt c_26)) LC_9 (by decide) (j := 7) rfl dX1_deal_175 ?_
          refine lv_aload_n hx hb dX1_deal_176 rfl (lv_at hl 6 rfl) ?_
          refine lv_iload hx hb dX1_deal_177 (lv_at hl 4 rfl) ?_
          refine lv_iload hx hb dX1_deal_179 (lv_at hl 3 rfl) ?_
          obtain ⟨σ_27, r_28, hg, hf⟩ := bn2_s hf
          refine x_calli (x_runV (As := [.int r_2, .int r_4]) (rest := [.int (gI σ_25 9 v (Int32.toNatClampNeg x1) 7), .int 7, .ref ((hC hs) 9 v (Int32.toNatClampNeg x1))]) X K O (xct_obj hk LC_1) rfl (m_C_X1_worth hk hg) EN_b EN_h (lw_V q889 q890 q891 q119 q892) 2 rfl hl.1 (Nat.le_of_ble_eq_true rfl) hdV_X1_worth ⟨by decide, by decide⟩ ⟨Nat.le_refl _, Nat.le_refl _⟩ dX1_deal_181) (fun r u H locs hp O _ => ?_)
          cases hp
          have O : XH D A s.heap (hC hs) (xct (LC Δ) (okC Δ) (hC hs) d σ_27) H locs := O
          refine lv_iload_n hx hb dX1_deal_184 rfl (lv_at hl 9 rfl) ?_
          refine lv_imul hx hb dX1_deal_185 ?_
          refine lv_iadd hx hb dX1_deal_186 ?_
          obtain ⟨σ_29, eσ_29, hf⟩ := lt1_s hf
          refine x_ist X K O (oks_b hk (okI_lt c_26)) LC_9 (by decide) (j := 7) rfl dX1_deal_187 (fun H locs O => ?_)
          rw [← eσ_29] at O
          refine lv_aload_n hx hb dX1_deal_188 rfl (lv_at hl 6 rfl) ?_
          refine x_gF X K O 0 hk LC_1 rfl rfl in_X1 (by decide) q293 dX1_deal_189 ?_
          refine lv_iload_n hx hb dX1_deal_192 rfl (lv_at hl 8 rfl) ?_
          obtain ⟨c_30, hf⟩ := ck_s hf
          refine x_ald X K O 3 hk LC_5 (by decide) rfl rfl c_30 (j := (Int32.toNatClampNeg x2)) rfl dX1_deal_193 ?_
          refine x_gFN X K O 0 (oks_b hk (okI_lt c_30)) LC_8 rfl rfl in_X3 (by decide) q277 dX1_deal_194 ?_
          refine lv_bipush (v := 7) hx hb dX1_deal_197 (by decide) ?_
          refine lv_dup2_11 hx hb dX1_deal_199 rfl rfl ?_
          refine x_ild X K O (oks_b hk (okI_lt c_30)) LC_9 (by decide) (j := 7) rfl dX1_deal_200 ?_
          refine lv_aload_n hx hb dX1_deal_201 rfl (lv_at hl 6 rfl) ?_
          refine lv_iload hx hb dX1_deal_202 (lv_at hl 3 rfl) ?_
          refine lv_iload hx hb dX1_deal_204 (lv_at hl 4 rfl) ?_
          obtain ⟨σ_31, r_32, hg, hf⟩ := bn2_s hf
          refine x_calli (x_runV (As := [.int r_4, .int r_2]) (rest := [.int (gI σ_29 9 v (Int32.toNatClampNeg x2) 7), .int 7, .ref ((hC hs) 9 v (Int32.toNatClampNeg x2))]) X K O (xct_obj hk LC_1) rfl (m_C_X1_worth hk hg) EN_b EN_h (lw_V q889 q890 q891 q119 q892) 2 rfl hl.1 (Nat.le_of_ble_eq_true rfl) hdV_X1_worth ⟨by decide, by decide⟩ ⟨Nat.le_refl _, Nat.le_refl _⟩ dX1_deal_206) (fun r u H locs hp O _ => ?_)
          cases hp
          have O : XH D A s.heap (hC hs) (xct (LC Δ) (okC Δ) (hC hs) d σ_31) H locs := O
          refine lv_iload_n hx hb dX1_deal_209 rfl (lv_at hl 9 rfl) ?_
          refine lv_imul hx hb dX1_deal_210 ?_
          refine lv_iadd hx hb dX1_deal_211 ?_
          obtain ⟨σ_33, eσ_33, hf⟩ := lt1_s hf
          refine x_ist X K O (oks_b hk (okI_lt c_30)) LC_9 (by decide) (j := 7) rfl dX1_deal_212 (fun H locs O => ?_)
          rw [← eσ_33] at O
          refine lv_aload hx hb dX1_deal_213 (lv_at hl 0 rfl) ?_
          refine lv_iconst (v := 4) hx hb dX1_deal_215 (by decide) ?_
          refine lv_aload_n hx hb dX1_deal_216 rfl (lv_at hl 6 rfl) ?_
          refine lv_aload_n hx hb dX1_deal_217 rfl (lv_at hl 6 rfl) ?_
          refine x_gF X K O 0 hk LC_1 rfl rfl in_X1 (by decide) q293 dX1_deal_218 ?_
          refine lv_iload_n hx hb dX1_deal_221 rfl (lv_at hl 7 rfl) ?_
          obtain ⟨c_34, hf⟩ := ck_s hf
          refine x_ald X K O 3 hk LC_5 (by decide) rfl rfl c_34 (j := (Int32.toNatClampNeg x1)) rfl dX1_deal_222 ?_
          refine lv_iload hx hb dX1_deal_223 (lv_at hl 4 rfl) ?_
          refine lv_iload hx hb dX1_deal_225 (lv_at hl 2 rfl) ?_
          refine lv_iload_n hx hb dX1_deal_227 rfl (lv_at hl 9 rfl) ?_
          obtain ⟨σ_35, r_36, hg, hf⟩ := bn2_s hf
          refine x_calli (x_runV (As := [.ref ((hC hs) 8 v (Int32.toNatClampNeg x1)), .int r_2, .int r_6, .int x3]) (rest := [.int 4, .ref ((hC hs) 11 v (Int32.toNatClampNeg (gI σ_13 1 v 0 6)))]) X K O (xct_obj hk LC_1) rfl (m_C_X1_notches hk (oks_b hk (okI_lt c_34)) hg) EN_b EN_h (lw_V q893 q895 qs26 q119 q896) 4 rfl hl.1 (Nat.le_of_ble_eq_true rfl) hdV_X1_notches ⟨by decide, by decide⟩ ⟨Nat.le_refl _, Nat.le_refl _⟩ dX1_deal_228) (fun r u H locs hp O _ => ?_)
          cases hp
          have O : XH D A s.heap (hC hs) (xct (LC Δ) (okC Δ) (hC hs) d σ_35) H locs := O
          obtain ⟨σ_37, eσ_37, hf⟩ := lt1_s hf
          refine x_ist X K O (oks_b hk (okI_lt c_17)) LC_11 (by decide) (j := 4) rfl dX1_deal_231 (fun H locs O => ?_)
          rw [← eσ_37] at O
          refine lv_aload hx hb dX1_deal_232 (lv_at hl 0 rfl) ?_
          refine lv_iconst (v := 5) hx hb dX1_deal_234 (by decide) ?_
          refine lv_aload_n hx hb dX1_deal_235 rfl (lv_at hl 6 rfl) ?_
          refine lv_aload_n hx hb dX1_deal_236 rfl (lv_at hl 6 rfl) ?_
          refine x_gF X K O 0 hk LC_1 rfl rfl in_X1 (by decide) q293 dX1_deal_237 ?_
          refine lv_iload_n hx hb dX1_deal_240 rfl (lv_at hl 8 rfl) ?_
          obtain ⟨c_38, hf⟩ := ck_s hf
          refine x_ald X K O 3 hk LC_5 (by decide) rfl rfl c_38 (j := (Int32.toNatClampNeg x2)) rfl dX1_deal_241 ?_
          refine lv_iload hx hb dX1_deal_242 (lv_at hl 3 rfl) ?_
          refine lv_iload hx hb dX1_deal_244 (lv_at hl 1 rfl) ?_
          refine lv_iload_n hx hb dX1_deal_246 rfl (lv_at hl 9 rfl) ?_
          obtain ⟨σ_39, r_40, hg, hf⟩ := bn2_s hf
          refine x_calli (x_runV (As := [.ref ((hC hs) 8 v (Int32.toNatClampNeg x2)), .int r_4, .int r_8, .int x3]) (rest := [.int 5, .ref ((hC hs) 11 v (Int32.toNatClampNeg (gI σ_13 1 v 0 6)))]) X K O (xct_obj hk LC_1) rfl (m_C_X1_notches hk (oks_b hk (okI_lt c_38)) hg) EN_b EN_h (lw_V q893 q895 qs26 q119 q896) 4 rfl hl.1 (Nat.le_of_ble_eq_true rfl) hdV_X1_notches ⟨by decide, by decide⟩ ⟨Nat.le_refl _, Nat.le_refl _⟩ dX1_deal_247) (fun r u H locs hp O _ => ?_)
          cases hp
          have O : XH D A s.heap (hC hs) (xct (LC Δ) (okC Δ) (hC hs) d σ_39) H locs := O
          obtain ⟨σ_41, eσ_41, hf⟩ := lt1_s hf
          refine x_ist X K O (oks_b hk (okI_lt c_17)) LC_11 (by decide) (j := 5) rfl dX1_deal_250 (fun H locs O => ?_)
          rw [← eσ_41] at O
          refine lv_aload_n hx hb dX1_deal_251 rfl (lv_at hl 6 rfl) ?_
          refine lv_dup hx hb dX1_deal_252 rfl ?_
          refine x_gI X K O 6 hk LC_1 rfl rfl in_X1 (by decide) q305 dX1_deal_253 ?_
          refine lv_iconst (v := 1) hx hb dX1_deal_256 (by decide) ?_
          refine lv_iadd hx hb dX1_deal_257 ?_
          obtain ⟨σ_42, eσ_42, hf⟩ := lt1_s hf
          refine x_pI X K O 6 hk LC_1 rfl rfl in_X1 tyX1_ok nmX1 (by decide) q305 rfl rfl rfl dX1_deal_258 (fun H locs O => ?_)
          rw [← eσ_42] at O
          refine lv_aload_n hx hb dX1_deal_261 rfl (lv_at hl 6 rfl) ?_
          refine x_gI X K O 6 hk LC_1 rfl rfl in_X1 (by decide) q305 dX1_deal_262 ?_
          refine lv_iconst (v := 1) hx hb dX1_deal_265 (by decide) ?_
          refine lv_isub hx hb dX1_deal_266 ?_
          exact x_iret X O rfl _ (Option.some.inj hf).symm rfl dX1_deal_267
        · replace hf := if_t c_16 hf
          refine lv_iconst (v := (-1)) hx hb dX1_deal_92 (by decide) ?_
          exact x_iret X O rfl _ (Option.some.inj hf).symm rfl dX1_deal_93
def C_X1_deal_b24 (Δ : DT) (v : Nat) (σ : ST) (x1 : Int32) (x2 : Int32) (x3 : Int32) : Option (ST × Int32) :=
  C_X1_deal_b25 Δ v σ x1 x2 x3 0
theorem w_C_X1_deal_b24 {Δ : DT} {v : Nat} (X : FX p m c meth s args RX1 cX1_deal 10 (some .int)) (K : XK D d A s) {z : ST × Int32} (hk : okC Δ 1 v 0 = true) (σ : ST) (x1 : Int32) (x2 : Int32) (x3 : Int32) (ls : Array Slot) (H : Heap) (locs : List Loc) (O : XH D A s.heap (hC hs) (xct (LC Δ) (okC Δ) (hC hs) d σ) H locs) (hl : lv_has ls 10 [(0, .ref ((hC hs) 1 v 0)), (1, .int x1), (2, .int x2), (3, .int x3)]) (hf : C_X1_deal_b24 Δ v σ x1 x2 x3 = some z) : W p l e (rmD 846 0 0) s m args below meth c H locs 0 0 (MQ below (Qi D (pz z) (cw (hC hs) (LC Δ) (okC Δ) d) A) args s 0 0 A) (F0 m 24 ls []) := by
  have hx := X.1.1; have hb := X.1.2.1
  rw [C_X1_deal_b24] at hf
  refine lv_iconst (v := 0) hx hb dX1_deal_24 (by decide) ?_
  exact w_C_X1_deal_b25 X K hk _ _ _ _ _ ls _ _ O (lv_sub hl [0, 1, 2, 3] rfl) hf
def C_X1_deal (Δ : DT) (v : Nat) (σ : ST) (p1 : Int32) (p2 : Int32) (p3 : Int32) : Option (ST × Int32) :=
  bn2 (C_X1_deals Δ v σ p1 p2 p3) (fun σ_1 r_2 => (if r_2 = 0 then C_X1_deal_b24 Δ v σ_1 p1 p2 p3 else bn2 (C_X1_deals Δ v σ_1 p2 p1 p3) (fun σ_4 r_5 => (if r_5 = 0 then C_X1_deal_b24 Δ v σ_4 p1 p2 p3 else C_X1_deal_b25 Δ v σ_4 p1 p2 p3 1))))
theorem m_C_X1_deal {l : Launch} {D : va_G} {d : Nat → ClassId} {hs : IX} {Δ : DT} {v : Nat} {p1 : Int32} {p2 : Int32} {p3 : Int32} {σ : ST} {z : ST × Int32} (hk : okC Δ 1 v 0 = true) (hf : C_X1_deal Δ v σ p1 p2 p3 = some z) : XM l D d EN yX1_deal cX1_deal 10 (some .int) 846 0 0 [.ref ((hC hs) 1 v 0), .int p1, .int p2, .int p3] (hC hs) (xct (LC Δ) (okC Δ) (hC hs) d σ) (Qi D (pz z) (cw (hC hs) (LC Δ) (okC Δ) d)) := by
  refine XM.of (by decide +kernel) (Nat.le_of_ble_eq_true rfl) ?_
  intro p e s m below meth c A ls X _ K _ O hl
  have hl : lv_has ls 10 [(0, .ref ((hC hs) 1 v 0)), (1, .int p1), (2, .int p2), (3, .int p3)] := hl
  have hx := X.1.1; have hb := X.1.2.1
  rw [C_X1_deal] at hf
  refine lv_aload_n hx hb dX1_deal_0 rfl (lv_at hl 0 rfl) ?_
  refine lv_iload_n hx hb dX1_deal_1 rfl (lv_at hl 1 rfl) ?_
  refine lv_iload_n hx hb dX1_deal_2 rfl (lv_at hl 2 rfl) ?_
  refine lv_iload_n hx hb dX1_deal_3 rfl (lv_at hl 3 rfl) ?_
  obtain ⟨σ_1, r_2, hg, hf⟩ := bn2_s hf
  refine x_calli (x_runV (As := [.int p1, .int p2, .int p3]) (rest := []) X K O (xct_obj hk LC_1) rfl (m_C_X1_deals hk hg) EN_b EN_h (lw_V q882 q816 q817 q119 q818) 3 rfl hl.1 (Nat.le_of_ble_eq_true rfl) hdV_X1_deals ⟨by decide, by decide⟩ ⟨Nat.le_refl _, Nat.le_refl _⟩ dX1_deal_4) (fun r u H locs hp O _ => ?_)
  cases hp
  have O : XH D A s.heap (hC hs) (xct (LC Δ) (okC Δ) (hC hs) d σ_1) H locs := O
  refine lv_if_eq (tgt := 24) hx hb dX1_deal_7 (by decide) (fun c_3 => ?_) (fun c_3 => ?_)
  · replace hf := if_t c_3 hf
    exact w_C_X1_deal_b24 X K hk _ _ _ _ ls _ _ O (lv_sub hl [0, 1, 2, 3] rfl) hf
  · replace hf := if_f c_3 hf
    refine lv_aload_n hx hb dX1_deal_10 rfl (lv_at hl 0 rfl) ?_
    refine lv_iload_n hx hb dX1_deal_11 rfl (lv_at hl 2 rfl) ?_
    refine lv_iload_n hx hb dX1_deal_12 rfl (lv_at hl 1 rfl) ?_
    refine lv_iload_n hx hb dX1_deal_13 rfl (lv_at hl 3 rfl) ?_
    obtain ⟨σ_4, r_5, hg, hf⟩ := bn2_s hf
    refine x_calli (x_runV (As := [.int p2, .int p1, .int p3]) (rest := []) X K O (xct_obj hk LC_1) rfl (m_C_X1_deals hk hg) EN_b EN_h (lw_V q882 q816 q817 q119 q818) 3 rfl hl.1 (Nat.le_of_ble_eq_true rfl) hdV_X1_deals ⟨by decide, by decide⟩ ⟨Nat.le_refl _, Nat.le_refl _⟩ dX1_deal_14) (fun r u H locs hp O _ => ?_)
    cases hp
    have O : XH D A s.heap (hC hs) (xct (LC Δ) (okC Δ) (hC hs) d σ_4) H locs := O
    refine lv_if_eq (tgt := 24) hx hb dX1_deal_17 (by decide) (fun c_6 => ?_) (fun c_6 => ?_)
    · replace hf := if_t c_6 hf
      exact w_C_X1_deal_b24 X K hk _ _ _ _ ls _ _ O (lv_sub hl [0, 1, 2, 3] rfl) hf
    · replace hf := if_f c_6 hf
      refine lv_iconst (v := 1) hx hb dX1_deal_20 (by decide) ?_
      refine lv_goto (tgt := 25) hx hb dX1_deal_21 (by decide) ?_
      exact w_C_X1_deal_b25 X K hk _ _ _ _ _ ls _ _ O (lv_sub hl [0, 1, 2, 3] rfl) hf
theorem hdV_X1_deal : yX1_deal.cls = RX1 ∧ (yX1_deal.cls ≠ "java/lang/invoke/MethodHandle" ∧ yX1_deal.cls ≠ "java/lang/invoke/VarHandle" ∧ (parseMethodDescriptor yX1_deal.desc).map (fun d => d.parameters.length) = some 3) := by decide +kernel
theorem hdV_X1_drawnSize : yX1_drawnSize.cls = RX1 ∧ (yX1_drawnSize.cls ≠ "java/lang/invoke/MethodHandle" ∧ yX1_drawnSize.cls ≠ "java/lang/invoke/VarHandle" ∧ (parseMethodDescriptor yX1_drawnSize.desc).map (fun d => d.parameters.length) = some 0) := by decide +kernel
theorem hdV_X3_cuts : yX3_cuts.cls = RX3 ∧ (yX3_cuts.cls ≠ "java/lang/invoke/MethodHandle" ∧ yX3_cuts.cls ≠ "java/lang/invoke/VarHandle" ∧ (parseMethodDescriptor yX3_cuts.desc).map (fun d => d.parameters.length) = some 0) := by decide +kernel
def C_X1_goesBy_b157 (Δ : DT) (v : Nat) (kb80 : ST → Int32 → Option (ST)) (σ : ST) (x1 : Int32) : Option (ST) :=
  lt1 (x1 + 1) (fun x1_1 => kb80 σ x1_1)
theorem w_C_X1_goesBy_b157 {Δ : DT} {v : Nat} (X : FX p m c meth s args RX1 cX1_goesBy 6 none) (K : XK D d A s) {z : ST} (hk : okC Δ 1 v 0 = true) {kb80 : ST → Int32 → Option (ST)} (hkb80 : ∀ (σ : ST) (x1 : Int32) (ls : Array Slot) (H : Heap) (locs : List Loc), XH D A s.heap (hC hs) (xct (LC Δ) (okC Δ) (hC hs) d σ) H locs → lv_has ls 6 [(0, .ref ((hC hs) 1 v 0)), (1, .int x1)] → kb80 σ x1 = some z → W p l e (rmD 847 0 0) s m args below meth c H locs 0 0 (MQ below (Qv D (pu z) (cw (hC hs) (LC Δ) (okC Δ) d) A) args s 0 0 A) (F0 m 80 ls [])) (σ : ST) (x1 : Int32) (ls : Array Slot) (H : Heap) (locs : List Loc) (O : XH D A s.heap (hC hs) (xct (LC Δ) (okC Δ) (hC hs) d σ) H locs) (hl : lv_has ls 6 [(0, .ref ((hC hs) 1 v 0)), (1, .int x1)]) (hf : C_X1_goesBy_b157 Δ v kb80 σ x1 = some z) : W p l e (rmD 847 0 0) s m args below meth c H locs 0 0 (MQ below (Qv D (pu z) (cw (hC hs) (LC Δ) (okC Δ) d) A) args s 0 0 A) (F0 m 157 ls []) := by
  have hx := X.1.1; have hb := X.1.2.1
  rw [C_X1_goesBy_b157] at hf
  obtain ⟨x1_1, ex1_1, hf⟩ := lt1_s hf
  refine lv_iinc (v := x1_1) (lv' := [(1, .int x1_1), (0, .ref ((hC hs) 1 v 0))]) hx hb dX1_goesBy_157 hl (k := 1) rfl (by rw [ex1_1]; rfl) (by decide) rfl (fun ls hl => ?_)
  refine lv_goto (tgt := 80) hx hb dX1_goesBy_160 (by decide) ?_
  exact hkb80 _ _ ls _ _ O (lv_sub hl [1, 0] rfl) hf
def C_X1_goesBy_b80 (Δ : DT) (v : Nat) : Nat → ST → Int32 → Option (ST)
  | 0, _, _ => none
  | n + 1, σ, x1 =>
    (if (gI σ 1 v 0 5) ≤ x1 then lt1 (sI σ 1 v 0 7 ((gI σ 1 v 0 7) + 1)) (fun σ_2 => some σ_2) else ck (okI x1 12) (lt1 (sI σ 9 v (Int32.toNatClampNeg x1) 6 (imax 0 ((gI σ 9 v (Int32.toNatClampNeg x1) 6) - 1))) (fun σ_4 => lt1 (sI σ_4 9 v (Int32.toNatClampNeg x1) 1 (imin 99 ((gI σ_4 9 v (Int32.toNatClampNeg x1) 1) + 1))) (fun σ_5 => (if (gI σ_5 4 v 0 7) ≤ 0 then C_X1_goesBy_b157 Δ v (C_X1_goesBy_b80 Δ v n) σ_5 x1 else (if (gI σ_5 9 v (Int32.toNatClampNeg x1) 1) = (gI σ_5 4 v 0 7) then ck (okI x1 12) (bn1 (C_X3_cuts Δ v (Int32.toNatClampNeg x1) σ_5) (fun σ_9 => C_X1_goesBy_b157 Δ v (C_X1_goesBy_b80 Δ v n) σ_9 x1)) else C_X1_goesBy_b157 Δ v (C_X1_goesBy_b80 Δ v n) σ_5 x1))))))
theorem w_C_X1_goesBy_b80 {Δ : DT} {v : Nat} (X : FX p m c meth s args RX1 cX1_goesBy 6 none) (K : XK D d A s) {z : ST} (hk : okC Δ 1 v 0 = true) : ∀ (n : Nat) (σ : ST) (x1 : Int32) (ls : Array Slot) (H : Heap) (locs : List Loc), XH D A s.heap (hC hs) (xct (LC Δ) (okC Δ) (hC hs) d σ) H locs → lv_has ls 6 [(0, .ref ((hC hs) 1 v 0)), (1, .int x1)] → C_X1_goesBy_b80 Δ v n σ x1 = some z → W p l e (rmD 847 0 0) s m args below meth c H locs 0 0 (MQ below (Qv D (pu z) (cw (hC hs) (LC Δ) (okC Δ) d) A) args s 0 0 A) (F0 m 80 ls []) := by
  have hx := X.1.1; have hb := X.1.2.1
  intro n
  induction n with
  | zero =>
    intro σ x1 ls H locs O hl hf
    exact absurd hf (fun q => by cases q)
  | succ n ih =>
    intro σ x1 ls H locs O hl hf
    rw [C_X1_goesBy_b80] at hf
    refine lv_iload_n hx hb dX1_goesBy_80 rfl (lv_at hl 1 rfl) ?_
    refine lv_aload_n hx hb dX1_goesBy_81 rfl (lv_at hl 0 rfl) ?_
    refine x_gI X K O 5 hk LC_1 rfl rfl in_X1 (by decide) q303 dX1_goesBy_82 ?_
    refine lv_icmp_ge (tgt := 163) hx hb dX1_goesBy_85 (by decide) (fun c_1 => ?_) (fun c_1 => ?_)
    · replace hf := if_t c_1 hf
      refine lv_aload_n hx hb dX1_goesBy_163 rfl (lv_at hl 0 rfl) ?_
      refine lv_dup hx hb dX1_goesBy_164 rfl ?_
      refine x_gI X K O 7 hk LC_1 rfl rfl in_X1 (by decide) q307 dX1_goesBy_165 ?_
      refine lv_iconst (v := 1) hx hb dX1_goesBy_168 (by decide) ?_
      refine lv_iadd hx hb dX1_goesBy_169 ?_
      obtain ⟨σ_2, eσ_2, hf⟩ := lt1_s hf
      refine x_pI X K O 7 hk LC_1 rfl rfl in_X1 tyX1_ok nmX1 (by decide) q307 rfl rfl rfl dX1_goesBy_170 (fun H locs O => ?_)
      rw [← eσ_2] at O
      exact x_vret X O rfl _ (Option.some.inj hf).symm rfl dX1_goesBy_173
    · replace hf := if_f c_1 hf
      refine lv_aload_n hx hb dX1_goesBy_88 rfl (lv_at hl 0 rfl) ?_
      refine x_gF X K O 0 hk LC_1 rfl rfl in_X1 (by decide) q293 dX1_goesBy_89 ?_
      refine lv_iload_n hx hb dX1_goesBy_92 rfl (lv_at hl 1 rfl) ?_
      obtain ⟨c_3, hf⟩ := ck_s hf
      refine x_ald X K O 3 hk LC_5 (by decide) rfl rfl c_3 (j := (Int32.toNatClampNeg x1)) rfl dX1_goesBy_93 ?_
      refine x_gFN X K O 0 (oks_b hk (okI_lt c_3)) LC_8 rfl rfl in_X3 (by decide) q277 dX1_goesBy_94 ?_
      refine lv_astore_n (lv' := [(2, .ref ((hC hs) 9 v (Int32.toNatClampNeg x1))), (0, .ref ((hC hs) 1 v 0)), (1, .int x1)]) hx hb dX1_goesBy_97 rfl hl (by decide) rfl (fun ls hl => ?_)
      refine lv_aload_n hx hb dX1_goesBy_98 rfl (lv_at hl 0 rfl) ?_
      refine lv_bipush (v := 6) hx hb dX1_goesBy_99 (by decide) ?_
      refine lv_iconst (v := 0) hx hb dX1_goesBy_101 (by decide) ?_
      refine lv_aload_n hx hb dX1_goesBy_102 rfl (lv_at hl 0 rfl) ?_
      refine lv_bipush (v := 6) hx hb dX1_goesBy_103 (by decide) ?_
      refine x_ild X K O (oks_b hk (okI_lt c_3)) LC_9 (by decide) (j := 6) rfl dX1_goesBy_105 ?_
      refine lv_iconst (v := 1) hx hb dX1_goesBy_106 (by decide) ?_
      refine lv_isub hx hb dX1_goesBy_107 ?_
      refine va_mmax hx hb (X.1.2.2.1.trans hl.1.symm) X.1.2.2.2.1 (X.1.2.2.2.2 _ q933) (X.1.2.2.2.2 _ q195) (X.1.2.2.2.2 _ q116) (X.1.2.2.2.2 _ q196) (by decide) (Nat.le_of_ble_eq_true rfl) (Nat.le_refl _) (Nat.le_refl _) dX1_goesBy_108 ?_
      refine x_top (w := .int (imax 0 ((gI σ 9 v (Int32.toNatClampNeg x1) 6) - 1))) rfl ?_
      obtain ⟨σ_4, eσ_4, hf⟩ := lt1_s hf
      refine x_ist X K O (oks_b hk (okI_lt c_3)) LC_9 (by decide) (j := 6) rfl dX1_goesBy_111 (fun H locs O => ?_)
      rw [← eσ_4] at O
      refine lv_aload_n hx hb dX1_goesBy_112 rfl (lv_at hl 0 rfl) ?_
      refine lv_iconst (v := 1) hx hb dX1_goesBy_113 (by decide) ?_
      refine lv_bipush (v := 99) hx hb dX1_goesBy_114 (by decide) ?_
      refine lv_aload_n hx hb dX1_goesBy_116 rfl (lv_at hl 0 rfl) ?_
      refine lv_iconst (v := 1) hx hb dX1_goesBy_117 (by decide) ?_
      refine x_ild X K O (oks_b hk (okI_lt c_3)) LC_9 (by decide) (j := 1) rfl dX1_goesBy_118 ?_
      refine lv_iconst (v := 1) hx hb dX1_goesBy_119 (by decide) ?_
      refine lv_iadd hx hb dX1_goesBy_120 ?_
      refine va_mmin hx hb (X.1.2.2.1.trans hl.1.symm) X.1.2.2.2.1 (X.1.2.2.2.2 _ q934) (X.1.2.2.2.2 _ q230) (X.1.2.2.2.2 _ q116) (X.1.2.2.2.2 _ q231) (by decide) (Nat.le_of_ble_eq_true rfl) (Nat.le_refl _) (Nat.le_refl _) dX1_goesBy_121 ?_
      refine x_top (w := .int (imin 99 ((gI σ_4 9 v (Int32.toNatClampNeg x1) 1) + 1))) rfl ?_
      obtain ⟨σ_5, eσ_5, hf⟩ := lt1_s hf
      refine x_ist X K O (oks_b hk (okI_lt c_3)) LC_9 (by decide) (j := 1) rfl dX1_goesBy_124 (fun H locs O => ?_)
      rw [← eσ_5] at O
      refine lv_aload_n hx hb dX1_goesBy_125 rfl (lv_at hl 1 rfl) ?_
      refine x_gF X K O 2 hk LC_1 rfl rfl in_X1 (by decide) q298 dX1_goesBy_126 ?_
      refine lv_bipush (v := 7) hx hb dX1_goesBy_129 (by decide) ?_
      refine x_ild X K O hk LC_4 (by decide) (j := 7) rfl dX1_goesBy_131 ?_
      refine lv_if_le (tgt := 157) hx hb dX1_goesBy_132 (by decide) (fun c_6 => ?_) (fun c_6 => ?_)
      · replace hf := if_t c_6 hf
        exact w_C_X1_goesBy_b157 X K hk ih _ _ ls _ _ O (lv_sub hl [1, 2] rfl) hf
      · replace hf := if_f c_6 hf
        refine lv_aload_n hx hb dX1_goesBy_135 rfl (lv_at hl 0 rfl) ?_
        refine lv_iconst (v := 1) hx hb dX1_goesBy_136 (by decide) ?_
        refine x_ild X K O (oks_b hk (okI_lt c_3)) LC_9 (by decide) (j := 1) rfl dX1_goesBy_137 ?_
        refine lv_aload_n hx hb dX1_goesBy_138 rfl (lv_at hl 1 rfl) ?_
        refine x_gF X K O 2 hk LC_1 rfl rfl in_X1 (by decide) q298 dX1_goesBy_139 ?_
        refine lv_bipush (v := 7) hx hb dX1_goesBy_142 (by decide) ?_
        refine x_ild X K O hk LC_4 (by decide) (j := 7) rfl dX1_goesBy_144 ?_
        refine lv_icmp_ne (tgt := 157) hx hb dX1_goesBy_145 (by decide) (fun c_7 => ?_) (fun c_7 => ?_)
        · replace hf := if_f c_7 hf
          exact w_C_X1_goesBy_b157 X K hk ih _ _ ls _ _ O (lv_sub hl [1, 2] rfl) hf
        · replace hf := if_t c_7 hf
          refine lv_aload_n hx hb dX1_goesBy_148 rfl (lv_at hl 1 rfl) ?_
          refine x_gF X K O 0 hk LC_1 rfl rfl in_X1 (by decide) q293 dX1_goesBy_149 ?_
          refine lv_iload_n hx hb dX1_goesBy_152 rfl (lv_at hl 2 rfl) ?_
          obtain ⟨c_8, hf⟩ := ck_s hf
          refine x_ald X K O 3 hk LC_5 (by decide) rfl rfl c_8 (j := (Int32.toNatClampNeg x1)) rfl dX1_goesBy_153 ?_
          obtain ⟨σ_9, hg, hf⟩ := bn1_s hf
          refine x_callv (x_runV (As := []) (rest := []) X K O (xct_obj (oks_b hk (okI_lt c_8)) LC_8) rfl (m_C_X3_cuts (oks_b hk (okI_lt c_8)) hg) EN_b EN_h (lw_V q935 q936 q937 q121 q938) 0 rfl hl.1 (Nat.le_of_ble_eq_true rfl) hdV_X3_cuts ⟨by decide, by decide⟩ ⟨Nat.le_refl _, Nat.le_refl _⟩ dX1_goesBy_154) (fun u H locs hp O _ => ?_)
          cases hp
          have O : XH D A s.heap (hC hs) (xct (LC Δ) (okC Δ) (hC hs) d σ_9) H locs := O
          exact w_C_X1_goesBy_b157 X K hk ih _ _ ls _ _ O (lv_sub hl [1, 2] rfl) hf
def C_X1_goesBy_b78 (Δ : DT) (v : Nat) (σ : ST) : Option (ST) :=
  C_X1_goesBy_b80 Δ v FUEL σ 0
theorem w_C_X1_goesBy_b78 {Δ : DT} {v : Nat} (X : FX p m c meth s args RX1 cX1_goesBy 6 none) (K : XK D d A s) {z : ST} (hk : okC Δ 1 v 0 = true) (σ : ST) (ls : Array Slot) (H : Heap) (locs : List Loc) (O : XH D A s.heap (hC hs) (xct (LC Δ) (okC Δ) (hC hs) d σ) H locs) (hl : lv_has ls 6 [(0, .ref ((hC hs) 1 v 0))]) (hf : C_X1_goesBy_b78 Δ v σ = some z) : W p l e (rmD 847 0 0) s m args below meth c H locs 0 0 (MQ below (Qv D (pu z) (cw (hC hs) (LC Δ) (okC Δ) d) A) args s 0 0 A) (F0 m 78 ls []) := by
  have hx := X.1.1; have hb := X.1.2.1
  rw [C_X1_goesBy_b78] at hf
  refine lv_iconst (v := 0) hx hb dX1_goesBy_78 (by decide) ?_
  refine lv_istore_n (lv' := [(1, .int 0), (0, .ref ((hC hs) 1 v 0))]) hx hb dX1_goesBy_79 rfl hl (by decide) rfl (fun ls hl => ?_)
  exact w_C_X1_goesBy_b80 X K hk _ _ _ ls _ _ O (lv_sub hl [1, 0] rfl) hf
def C_X1_goesBy_b56 (Δ : DT) (v : Nat) (kb2 : ST → Int32 → Option (ST)) (σ : ST) (x1 : Int32) (x2 : Int32) (x3 : Int32) : Option (ST) :=
  bn2 (C_X1_drawnSize Δ v σ) (fun σ_1 r_2 => bn2 (C_X1_deal Δ v σ_1 x2 x3 r_2) (fun σ_3 r_4 => lt1 (x1 + 1) (fun x1_5 => kb2 σ_3 x1_5)))
theorem w_C_X1_goesBy_b56 {Δ : DT} {v : Nat} (X : FX p m c meth s args RX1 cX1_goesBy 6 none) (K : XK D d A s) {z : ST} (hk : okC Δ 1 v 0 = true) {kb2 : ST → Int32 → Option (ST)} (hkb2 : ∀ (σ : ST) (x1 : Int32) (ls : Array Slot) (H : Heap) (locs : List Loc), XH D A s.heap (hC hs) (xct (LC Δ) (okC Δ) (hC hs) d σ) H locs → lv_has ls 6 [(0, .ref ((hC hs) 1 v 0)), (1, .int x1)] → kb2 σ x1 = some z → W p l e (rmD 847 0 0) s m args below meth c H locs 0 0 (MQ below (Qv D (pu z) (cw (hC hs) (LC Δ) (okC Δ) d) A) args s 0 0 A) (F0 m 2 ls [])) (σ : ST) (x1 : Int32) (x2 : Int32) (x3 : Int32) (ls : Array Slot) (H : Heap) (locs : List Loc) (O : XH D A s.heap (hC hs) (xct (LC Δ) (okC Δ) (hC hs) d σ) H locs) (hl : lv_has ls 6 [(0, .ref ((hC hs) 1 v 0)), (1, .int x1), (2, .int x2), (3, .int x3)]) (hf : C_X1_goesBy_b56 Δ v kb2 σ x1 x2 x3 = some z) : W p l e (rmD 847 0 0) s m args below meth c H locs 0 0 (MQ below (Qv D (pu z) (cw (hC hs) (LC Δ) (okC Δ) d) A) args s 0 0 A) (F0 m 56 ls []) := by
  have hx := X.1.1; have hb := X.1.2.1
  rw [C_X1_goesBy_b56] at hf
  refine lv_aload_n hx hb dX1_goesBy_56 rfl (lv_at hl 0 rfl) ?_
  obtain ⟨σ_1, r_2, hg, hf⟩ := bn2_s hf
  refine x_calli (x_runV (As := []) (rest := []) X K O (xct_obj hk LC_1) rfl (m_C_X1_drawnSize hk hg) EN_b EN_h (lw_V q928 q930 qs28 q119 q931) 0 rfl hl.1 (Nat.le_of_ble_eq_true rfl) hdV_X1_drawnSize ⟨by decide, by decide⟩ ⟨Nat.le_refl _, Nat.le_refl _⟩ dX1_goesBy_57) (fun r u H locs hp O _ => ?_)
  cases hp
  have O : XH D A s.heap (hC hs) (xct (LC Δ) (okC Δ) (hC hs) d σ_1) H locs := O
  refine lv_istore (lv' := [(4, .int r_2), (0, .ref ((hC hs) 1 v 0)), (1, .int x1), (2, .int x2), (3, .int x3)]) hx hb dX1_goesBy_60 hl (by decide) rfl (fun ls hl => ?_)
  refine lv_aload_n hx hb dX1_goesBy_62 rfl (lv_at hl 1 rfl) ?_
  refine lv_iload_n hx hb dX1_goesBy_63 rfl (lv_at hl 3 rfl) ?_
  refine lv_iload_n hx hb dX1_goesBy_64 rfl (lv_at hl 4 rfl) ?_
  refine lv_iload hx hb dX1_goesBy_65 (lv_at hl 0 rfl) ?_
  obtain ⟨σ_3, r_4, hg, hf⟩ := bn2_s hf
  refine x_calli (x_runV (As := [.int x2, .int x3, .int r_2]) (rest := []) X K O (xct_obj hk LC_1) rfl (m_C_X1_deal hk hg) EN_b EN_h (lw_V q932 q879 q880 q119 q881) 3 rfl hl.1 (Nat.le_of_ble_eq_true rfl) hdV_X1_deal ⟨by decide, by decide⟩ ⟨Nat.le_refl _, Nat.le_refl _⟩ dX1_goesBy_67) (fun r u H locs hp O _ => ?_)
  cases hp
  have O : XH D A s.heap (hC hs) (xct (LC Δ) (okC Δ) (hC hs) d σ_3) H locs := O
  refine lv_istore (lv' := [(5, .int r_4), (4, .int r_2), (0, .ref ((hC hs) 1 v 0)), (1, .int x1), (2, .int x2), (3, .int x3)]) hx hb dX1_goesBy_70 hl (by decide) rfl (fun ls hl => ?_)
  obtain ⟨x1_5, ex1_5, hf⟩ := lt1_s hf
  refine lv_iinc (v := x1_5) (lv' := [(1, .int x1_5), (5, .int r_4), (4, .int r_2), (0, .ref ((hC hs) 1 v 0)), (2, .int x2), (3, .int x3)]) hx hb dX1_goesBy_72 hl (k := 3) rfl (by rw [ex1_5]; rfl) (by decide) rfl (fun ls hl => ?_)
  refine lv_goto (tgt := 2) hx hb dX1_goesBy_75 (by decide) ?_
  exact hkb2 _ _ ls _ _ O (lv_sub hl [3, 0] rfl) hf
def C_X1_goesBy_b2 (Δ : DT) (v : Nat) : Nat → ST → Int32 → Option (ST)
  | 0, _, _ => none
  | n + 1, σ, x1 =>
    (if (gI σ 4 v 0 8) ≤ x1 then C_X1_goesBy_b78 Δ v σ else (if (gI σ 1 v 0 5) ≤ 1 then C_X1_goesBy_b78 Δ v σ else bn2 (C_X1_weights Δ v σ) (fun σ_3 r_4 => (if r_4 ≤ 0 then C_X1_goesBy_b78 Δ v σ_3 else bn2 (C_X1_draw Δ v σ_3 (gI σ_3 1 v 0 5)) (fun σ_6 r_7 => bn2 (C_X1_draw Δ v σ_6 ((gI σ_6 1 v 0 5) - 1)) (fun σ_8 r_9 => (if r_9 < r_7 then C_X1_goesBy_b56 Δ v (C_X1_goesBy_b2 Δ v n) σ_8 x1 r_7 r_9 else lt1 (r_9 + 1) (fun x3_11 => C_X1_goesBy_b56 Δ v (C_X1_goesBy_b2 Δ v n) σ_8 x1 r_7 x3_11))))))))
theorem w_C_X1_goesBy_b2 {Δ : DT} {v : Nat} (X : FX p m c meth s args RX1 cX1_goesBy 6 none) (K : XK D d A s) {z : ST} (hk : okC Δ 1 v 0 = true) : ∀ (n : Nat) (σ : ST) (x1 : Int32) (ls : Array Slot) (H : Heap) (locs : List Loc), XH D A s.heap (hC hs) (xct (LC Δ) (okC Δ) (hC hs) d σ) H locs → lv_has ls 6 [(0, .ref ((hC hs) 1 v 0)), (1, .int x1)] → C_X1_goesBy_b2 Δ v n σ x1 = some z → W p l e (rmD 847 0 0) s m args below meth c H locs 0 0 (MQ below (Qv D (pu z) (cw (hC hs) (LC Δ) (okC Δ) d) A) args s 0 0 A) (F0 m 2 ls []) := by
  have hx := X.1.1; have hb := X.1.2.1
  intro n
  induction n with
  | zero =>
    intro σ x1 ls H locs O hl hf
    exact absurd hf (fun q => by cases q)
  | succ n ih =>
    intro σ x1 ls H locs O hl hf
    rw [C_X1_goesBy_b2] at hf
    refine lv_iload_n hx hb dX1_goesBy_2 rfl (lv_at hl 1 rfl) ?_
    refine lv_aload_n hx hb dX1_goesBy_3 rfl (lv_at hl 0 rfl) ?_
    refine x_gF X K O 2 hk LC_1 rfl rfl in_X1 (by decide) q298 dX1_goesBy_4 ?_
    refine lv_bipush (v := 8) hx hb dX1_goesBy_7 (by decide) ?_
    refine x_ild X K O hk LC_4 (by decide) (j := 8) rfl dX1_goesBy_9 ?_
    refine lv_icmp_ge (tgt := 78) hx hb dX1_goesBy_10 (by decide) (fun c_1 => ?_) (fun c_1 => ?_)
    · replace hf := if_t c_1 hf
      exact w_C_X1_goesBy_b78 X K hk _ ls _ _ O (lv_sub hl [0] rfl) hf
    · replace hf := if_f c_1 hf
      refine lv_aload_n hx hb dX1_goesBy_13 rfl (lv_at hl 0 rfl) ?_
      refine x_gI X K O 5 hk LC_1 rfl rfl in_X1 (by decide) q303 dX1_goesBy_14 ?_
      refine lv_iconst (v := 1) hx hb dX1_goesBy_17 (by decide) ?_
      refine lv_icmp_le (tgt := 78) hx hb dX1_goesBy_18 (by decide) (fun c_2 => ?_) (fun c_2 => ?_)
      · replace hf := if_t c_2 hf
        exact w_C_X1_goesBy_b78 X K hk _ ls _ _ O (lv_sub hl [0] rfl) hf
      · replace hf := if_f c_2 hf
        refine lv_aload_n hx hb dX1_goesBy_21 rfl (lv_at hl 0 rfl) ?_
        obtain ⟨σ_3, r_4, hg, hf⟩ := bn2_s hf
        refine x_calli (x_runV (As := []) (rest := []) X K O (xct_obj hk LC_1) rfl (m_C_X1_weights hk hg) EN_b EN_h (lw_V q924 q925 q926 q119 q927) 0 rfl hl.1 (Nat.le_of_ble_eq_true rfl) hdV_X1_weights ⟨by decide, by decide⟩ ⟨Nat.le_refl _, Nat.le_refl _⟩ dX1_goesBy_22) (fun r u H locs hp O _ => ?_)
        cases hp
        have O : XH D A s.heap (hC hs) (xct (LC Δ) (okC Δ) (hC hs) d σ_3) H locs := O
        refine lv_if_le (tgt := 78) hx hb dX1_goesBy_25 (by decide) (fun c_5 => ?_) (fun c_5 => ?_)
        · replace hf := if_t c_5 hf
          exact w_C_X1_goesBy_b78 X K hk _ ls _ _ O (lv_sub hl [0] rfl) hf
        · replace hf := if_f c_5 hf
          refine lv_aload_n hx hb dX1_goesBy_28 rfl (lv_at hl 0 rfl) ?_
          refine lv_aload_n hx hb dX1_goesBy_29 rfl (lv_at hl 0 rfl) ?_
          refine x_gI X K O 5 hk LC_1 rfl rfl in_X1 (by decide) q303 dX1_goesBy_30 ?_
          obtain ⟨σ_6, r_7, hg, hf⟩ := bn2_s hf
          refine x_calli (x_runV (As := [.int (gI σ_3 1 v 0 5)]) (rest := []) X K O (xct_obj hk LC_1) rfl (m_C_X1_draw hk hg) EN_b EN_h (lw_V q897 q899 qs27 q119 q900) 1 rfl hl.1 (Nat.le_of_ble_eq_true rfl) hdV_X1_draw ⟨by decide, by decide⟩ ⟨Nat.le_refl _, Nat.le_refl _⟩ dX1_goesBy_33) (fun r u H locs hp O _ => ?_)
          cases hp
          have O : XH D A s.heap (hC hs) (xct (LC Δ) (okC Δ) (hC hs) d σ_6) H locs := O
          refine lv_istore_n (lv' := [(2, .int r_7), (0, .ref ((hC hs) 1 v 0)), (1, .int x1)]) hx hb dX1_goesBy_36 rfl hl (by decide) rfl (fun ls hl => ?_)
          refine lv_aload_n hx hb dX1_goesBy_37 rfl (lv_at hl 1 rfl) ?_
          refine lv_aload_n hx hb dX1_goesBy_38 rfl (lv_at hl 1 rfl) ?_
          refine x_gI X K O 5 hk LC_1 rfl rfl in_X1 (by decide) q303 dX1_goesBy_39 ?_
          refine lv_iconst (v := 1) hx hb dX1_goesBy_42 (by decide) ?_
          refine lv_isub hx hb dX1_goesBy_43 ?_
          obtain ⟨σ_8, r_9, hg, hf⟩ := bn2_s hf
          refine x_calli (x_runV (As := [.int ((gI σ_6 1 v 0 5) - 1)]) (rest := []) X K O (xct_obj hk LC_1) rfl (m_C_X1_draw hk hg) EN_b EN_h (lw_V q897 q899 qs27 q119 q900) 1 rfl hl.1 (Nat.le_of_ble_eq_true rfl) hdV_X1_draw ⟨by decide, by decide⟩ ⟨Nat.le_refl _, Nat.le_refl _⟩ dX1_goesBy_44) (fun r u H locs hp O _ => ?_)
          cases hp
          have O : XH D A s.heap (hC hs) (xct (LC Δ) (okC Δ) (hC hs) d σ_8) H locs := O
          refine lv_istore_n (lv' := [(3, .int r_9), (2, .int r_7), (0, .ref ((hC hs) 1 v 0)), (1, .int x1)]) hx hb dX1_goesBy_47 rfl hl (by decide) rfl (fun ls hl => ?_)
          refine lv_iload_n hx hb dX1_goesBy_48 rfl (lv_at hl 0 rfl) ?_
          refine lv_iload_n hx hb dX1_goesBy_49 rfl (lv_at hl 1 rfl) ?_
          refine lv_icmp_lt (tgt := 56) hx hb dX1_goesBy_50 (by decide) (fun c_10 => ?_) (fun c_10 => ?_)
          · replace hf := if_t c_10 hf
            exact w_C_X1_goesBy_b56 X K hk ih _ _ _ _ ls _ _ O (lv_sub hl [2, 3, 1, 0] rfl) hf
          · replace hf := if_f c_10 hf
            obtain ⟨x3_11, ex3_11, hf⟩ := lt1_s hf
            refine lv_iinc (v := x3_11) (lv' := [(3, .int x3_11), (2, .int r_7), (0, .ref ((hC hs) 1 v 0)), (1, .int x1)]) hx hb dX1_goesBy_53 hl (k := 0) rfl (by rw [ex3_11]; rfl) (by decide) rfl (fun ls hl => ?_)
            exact w_C_X1_goesBy_b56 X K hk ih _ _ _ _ ls _ _ O (lv_sub hl [2, 3, 1, 0] rfl) hf
def C_X1_goesBy (Δ : DT) (v : Nat) (σ : ST) : Option (ST) :=
  C_X1_goesBy_b2 Δ v FUEL σ 0
theorem m_C_X1_goesBy {l : Launch} {D : va_G} {d : Nat → ClassId} {hs : IX} {Δ : DT} {v : Nat} {σ : ST} {z : ST} (hk : okC Δ 1 v 0 = true) (hf : C_X1_goesBy Δ v σ = some z) : XM l D d EN yX1_goesBy cX1_goesBy 6 none 847 0 0 [.ref ((hC hs) 1 v 0)] (hC hs) (xct (LC Δ) (okC Δ) (hC hs) d σ) (Qv D (pu z) (cw (hC hs) (LC Δ) (okC Δ) d)) := by
  refine XM.of (by decide +kernel) (Nat.le_of_ble_eq_true rfl) ?_
  intro p e s m below meth c A ls X _ K _ O hl
  have hl : lv_has ls 6 [(0, .ref ((hC hs) 1 v 0))] := hl
  have hx := X.1.1; have hb := X.1.2.1
  rw [C_X1_goesBy] at hf
  refine lv_iconst (v := 0) hx hb dX1_goesBy_0 (by decide) ?_
  refine lv_istore_n (lv' := [(1, .int 0), (0, .ref ((hC hs) 1 v 0))]) hx hb dX1_goesBy_1 rfl hl (by decide) rfl (fun ls hl => ?_)
  exact w_C_X1_goesBy_b2 X K hk _ _ _ ls _ _ O (lv_sub hl [1, 0] rfl) hf
end CW
