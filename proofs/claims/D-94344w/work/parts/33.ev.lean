section CW
variable {p : Program} {l : Launch} {e : Env} {s : State} {m : MethodId} {args : Array Value} {below : List Frame} {meth : Method} {c : Code} {D : va_G} {A : Nat → Prop} {hs : IX} {d : Nat → ClassId} {Δ : DT}

def C_X10_of (Δ : DT) (E : ST → Nat → Option (ST × Int32)) (v : Nat) (p1a : Nat) (p1b : Nat) (σ : ST) : Option (ST × Int32) :=
  ck (decide (¬ gR σ 23 v 0 0 = 0)) (ck ((okC Δ) 23 (gR σ 23 v 0 0 - 1) 0) (bn2 (E σ (gR σ 23 v 0 0 - 1)) (fun σ_3 r_4 => some (σ_3, (1 - r_4)))))
theorem m_C_X10_of {l : Launch} {D : va_G} {d : Nat → ClassId} {hs : IX} {Δ : DT} {E : ST → Nat → Option (ST × Int32)} {v : Nat} {p1a : Nat} {p1b : Nat} {σ : ST} {z : ST × Int32} (dd0 : Nat) (hE : ∀ {σ : ST} {t : Nat} {z : ST × Int32}, E σ t = some z → TMet l D d hs Δ p1a p1b dd0 σ t z) (hk : Δ 23 v = some 8) (hp1 : okC Δ 2 p1a p1b = true) (hf : C_X10_of Δ E v p1a p1b σ = some z) : XM l D d EN yX10_of cX10_of 2 (some .int) (dd0 + 1) 0 0 [.ref ((hC hs) 23 v 0), .ref ((hC hs) 2 p1a p1b)] (hC hs) (xct (LC Δ) (okC Δ) (hC hs) d σ) (Qi D (pz z) (cw (hC hs) (LC Δ) (okC Δ) d)) := by
  refine XM.of (by decide +kernel) (Nat.le_of_ble_eq_true rfl) ?_
  intro p e s m below meth c A ls X _ K _ O hl
  have hl : lv_has ls 2 [(0, .ref ((hC hs) 23 v 0)), (1, .ref ((hC hs) 2 p1a p1b))] := hl
  have hx := X.1.1; have hb := X.1.2.1
  rw [C_X10_of] at hf
  refine lv_iconst (v := 1) hx hb dX10_of_0 (by decide) ?_
  refine lv_aload_n hx hb dX10_of_1 rfl (lv_at hl 0 rfl) ?_
  obtain ⟨c_1, hf⟩ := ck_s hf
  obtain ⟨c_2, hf⟩ := ck_s hf
  refine x_gQ X K O 0 (of_decide_eq_true c_1) (ok23 hk) (LC_23 hk) rfl rfl in_X10 (by decide) q690 dX10_of_2 ?_
  refine lv_aload_n hx hb dX10_of_5 rfl (lv_at hl 1 rfl) ?_
  obtain ⟨σ_3, r_4, hg, hf⟩ := bn2_s hf
  refine x_term (rest := [.int 1]) X K O q865 (hE hg) (by omega) hl.1 (Nat.le_of_ble_eq_true rfl) dX10_of_6 (fun H locs O => ?_)
  have O : XH D A s.heap (hC hs) (xct (LC Δ) (okC Δ) (hC hs) d σ_3) H locs := O
  refine lv_isub hx hb dX10_of_9 ?_
  exact x_iret X O rfl _ (Option.some.inj hf).symm rfl dX10_of_10
def C_X11_of (Δ : DT) (v : Nat) (p1a : Nat) (p1b : Nat) (σ : ST) : Option (ST × Int32) :=
  some (σ, (gI σ 23 v 0 0))
theorem m_C_X11_of {l : Launch} {D : va_G} {d : Nat → ClassId} {hs : IX} {Δ : DT} {v : Nat} {p1a : Nat} {p1b : Nat} {σ : ST} {z : ST × Int32} (dd0 : Nat) (hk : Δ 23 v = some 9) (hp1 : okC Δ 2 p1a p1b = true) (hf : C_X11_of Δ v p1a p1b σ = some z) : XM l D d EN yX11_of cX11_of 2 (some .int) (dd0 + 1) 0 0 [.ref ((hC hs) 23 v 0), .ref ((hC hs) 2 p1a p1b)] (hC hs) (xct (LC Δ) (okC Δ) (hC hs) d σ) (Qi D (pz z) (cw (hC hs) (LC Δ) (okC Δ) d)) := by
  refine XM.of (by decide +kernel) (Nat.le_of_ble_eq_true rfl) ?_
  intro p e s m below meth c A ls X _ K _ O hl
  have hl : lv_has ls 2 [(0, .ref ((hC hs) 23 v 0)), (1, .ref ((hC hs) 2 p1a p1b))] := hl
  have hx := X.1.1; have hb := X.1.2.1
  rw [C_X11_of] at hf
  refine lv_aload_n hx hb dX11_of_0 rfl (lv_at hl 0 rfl) ?_
  refine x_gI X K O 0 (ok23 hk) (LC_23 hk) rfl rfl in_X11 (by decide) q716 dX11_of_1 ?_
  exact x_iret X O rfl _ (Option.some.inj hf).symm rfl dX11_of_4
def C_X12_of (Δ : DT) (E : ST → Int32 → Option (ST × Int32)) (v : Nat) (p1a : Nat) (p1b : Nat) (σ : ST) : Option (ST × Int32) :=
  bn2 (E σ (gI σ 23 v 0 0)) (fun σ_1 r_2 => some (σ_1, r_2))
theorem m_C_X12_of {l : Launch} {D : va_G} {d : Nat → ClassId} {hs : IX} {Δ : DT} {E : ST → Int32 → Option (ST × Int32)} {v : Nat} {p1a : Nat} {p1b : Nat} {σ : ST} {z : ST × Int32} (dd0 : Nat) (dA : Nat) (hle : dA ≤ dd0) (hE : ∀ {σ : ST} {w : Int32} {z : ST × Int32}, E σ w = some z → XM l D d EN yX2_fact cX2_fact 3 (some .int) dA 0 0 [.ref (hC hs 2 p1a p1b), .int w] (hC hs) (xct (LC Δ) (okC Δ) (hC hs) d σ) (Qi D (pz z) (cw (hC hs) (LC Δ) (okC Δ) d))) (hk : Δ 23 v = some 10) (hp1 : okC Δ 2 p1a p1b = true) (hf : C_X12_of Δ E v p1a p1b σ = some z) : XM l D d EN yX12_of cX12_of 2 (some .int) (dd0 + 1) 0 0 [.ref ((hC hs) 23 v 0), .ref ((hC hs) 2 p1a p1b)] (hC hs) (xct (LC Δ) (okC Δ) (hC hs) d σ) (Qi D (pz z) (cw (hC hs) (LC Δ) (okC Δ) d)) := by
  refine XM.of (by decide +kernel) (Nat.le_of_ble_eq_true rfl) ?_
  intro p e s m below meth c A ls X _ K _ O hl
  have hl : lv_has ls 2 [(0, .ref ((hC hs) 23 v 0)), (1, .ref ((hC hs) 2 p1a p1b))] := hl
  have hx := X.1.1; have hb := X.1.2.1
  rw [C_X12_of] at hf
  refine lv_aload_n hx hb dX12_of_0 rfl (lv_at hl 1 rfl) ?_
  refine lv_aload_n hx hb dX12_of_1 rfl (lv_at hl 0 rfl) ?_
  refine x_gI X K O 0 (ok23 hk) (LC_23 hk) rfl rfl in_X12 (by decide) q726 dX12_of_2 ?_
  obtain ⟨σ_1, r_2, hg, hf⟩ := bn2_s hf
  refine x_callFi (x_runF (As := [.int (gI σ 23 v 0 0)]) (rest := []) X K O (xct_obj hp1 LC_2) rfl (hE hg) EN_b EN_h (lw_F q841 q845 q847 q120 q849) K.2.1.2.2.2.2.2 1 rfl hl.1 (Nat.le_of_ble_eq_true rfl) hdF_fact ⟨by omega, by decide⟩ ⟨Nat.le_refl _, Nat.le_refl _⟩ dX12_of_5) (fun r u H locs hp O _ => ?_)
  cases hp
  have O : XH D A s.heap (hC hs) (xct (LC Δ) (okC Δ) (hC hs) d σ_1) H locs := O
  exact x_iret X O rfl _ (Option.some.inj hf).symm rfl dX12_of_10
def C_X13_of (Δ : DT) (E : ST → Nat → Option (ST × Int32)) (v : Nat) (p1a : Nat) (p1b : Nat) (σ : ST) : Option (ST × Int32) :=
  ck (decide (¬ gR σ 23 v 0 0 = 0)) (ck ((okC Δ) 23 (gR σ 23 v 0 0 - 1) 0) (bn2 (E σ (gR σ 23 v 0 0 - 1)) (fun σ_3 r_4 => ck (decide (¬ gR σ_3 23 v 0 1 = 0)) (ck ((okC Δ) 23 (gR σ_3 23 v 0 1 - 1) 0) (bn2 (E σ_3 (gR σ_3 23 v 0 1 - 1)) (fun σ_7 r_8 => (if (gI σ_7 23 v 0 2) = 5 then some (σ_7, (r_4 &&& r_8)) else if (gI σ_7 23 v 0 2) = 42 then some (σ_7, (r_4 * r_8)) else if (gI σ_7 23 v 0 2) = 43 then some (σ_7, (r_4 + r_8)) else if (gI σ_7 23 v 0 2) = 45 then some (σ_7, (r_4 - r_8)) else if (gI σ_7 23 v 0 2) = 47 then ck (decide (¬ r_8 = 0)) (some (σ_7, (r_4 / r_8))) else if (gI σ_7 23 v 0 2) = 60 then (if r_8 ≤ r_4 then some (σ_7, 0) else some (σ_7, 1)) else if (gI σ_7 23 v 0 2) = 61 then (if r_4 = r_8 then some (σ_7, 1) else some (σ_7, 0)) else if (gI σ_7 23 v 0 2) = 62 then (if r_4 ≤ r_8 then some (σ_7, 0) else some (σ_7, 1)) else some (σ_7, (r_4 ||| r_8)))))))))
theorem m_C_X13_of {l : Launch} {D : va_G} {d : Nat → ClassId} {hs : IX} {Δ : DT} {E : ST → Nat → Option (ST × Int32)} {v : Nat} {p1a : Nat} {p1b : Nat} {σ : ST} {z : ST × Int32} (dd0 : Nat) (hE : ∀ {σ : ST} {t : Nat} {z : ST × Int32}, E σ t = some z → TMet l D d hs Δ p1a p1b dd0 σ t z) (hk : Δ 23 v = some 11) (hp1 : okC Δ 2 p1a p1b = true) (hf : C_X13_of Δ E v p1a p1b σ = some z) : XM l D d EN yX13_of cX13_of 4 (some .int) (dd0 + 1) 0 0 [.ref ((hC hs) 23 v 0), .ref ((hC hs) 2 p1a p1b)] (hC hs) (xct (LC Δ) (okC Δ) (hC hs) d σ) (Qi D (pz z) (cw (hC hs) (LC Δ) (okC Δ) d)) := by
  refine XM.of (by decide +kernel) (Nat.le_of_ble_eq_true rfl) ?_
  intro p e s m below meth c A ls X _ K _ O hl
  have hl : lv_has ls 4 [(0, .ref ((hC hs) 23 v 0)), (1, .ref ((hC hs) 2 p1a p1b))] := hl
  have hx := X.1.1; have hb := X.1.2.1
  rw [C_X13_of] at hf
  refine lv_aload_n hx hb dX13_of_0 rfl (lv_at hl 0 rfl) ?_
  obtain ⟨c_1, hf⟩ := ck_s hf
  obtain ⟨c_2, hf⟩ := ck_s hf
  refine x_gQ X K O 0 (of_decide_eq_true c_1) (ok23 hk) (LC_23 hk) rfl rfl in_X13 (by decide) q736 dX13_of_1 ?_
  refine lv_aload_n hx hb dX13_of_4 rfl (lv_at hl 1 rfl) ?_
  obtain ⟨σ_3, r_4, hg, hf⟩ := bn2_s hf
  refine x_term (rest := []) X K O q862 (hE hg) (by omega) hl.1 (Nat.le_of_ble_eq_true rfl) dX13_of_5 (fun H locs O => ?_)
  have O : XH D A s.heap (hC hs) (xct (LC Δ) (okC Δ) (hC hs) d σ_3) H locs := O
  refine lv_istore_n (lv' := [(2, .int r_4), (0, .ref ((hC hs) 23 v 0)), (1, .ref ((hC hs) 2 p1a p1b))]) hx hb dX13_of_8 rfl hl (by decide) rfl (fun ls hl => ?_)
  refine lv_aload_n hx hb dX13_of_9 rfl (lv_at hl 1 rfl) ?_
  obtain ⟨c_5, hf⟩ := ck_s hf
  obtain ⟨c_6, hf⟩ := ck_s hf
  refine x_gQ X K O 1 (of_decide_eq_true c_5) (ok23 hk) (LC_23 hk) rfl rfl in_X13 (by decide) q737 dX13_of_10 ?_
  refine lv_aload_n hx hb dX13_of_13 rfl (lv_at hl 2 rfl) ?_
  obtain ⟨σ_7, r_8, hg, hf⟩ := bn2_s hf
  refine x_term (rest := []) X K O q862 (hE hg) (by omega) hl.1 (Nat.le_of_ble_eq_true rfl) dX13_of_14 (fun H locs O => ?_)
  have O : XH D A s.heap (hC hs) (xct (LC Δ) (okC Δ) (hC hs) d σ_7) H locs := O
  refine lv_istore_n (lv' := [(3, .int r_8), (2, .int r_4), (0, .ref ((hC hs) 23 v 0)), (1, .ref ((hC hs) 2 p1a p1b))]) hx hb dX13_of_17 rfl hl (by decide) rfl (fun ls hl => ?_)
  refine lv_aload_n hx hb dX13_of_18 rfl (lv_at hl 2 rfl) ?_
  refine x_gI X K O 2 (ok23 hk) (LC_23 hk) rfl rfl in_X13 (by decide) q738 dX13_of_19 ?_
  by_cases c_9 : (gI σ_7 23 v 0 2) = 5
  · replace hf := if_t c_9 hf
    have h9 : (Int32.toInt (gI σ_7 23 v 0 2)) = 5 := by rw [c_9]; rfl
    refine lv_lookup (tgt := 145) (off := 123) hx hb dX13_of_22 (by decide) (by first | (rw [h9]; done) | (rw [h9]; rfl)) (by decide) ?_
    refine lv_iload_n hx hb dX13_of_145 rfl (lv_at hl 1 rfl) ?_
    refine lv_iload_n hx hb dX13_of_146 rfl (lv_at hl 0 rfl) ?_
    refine lv_iand hx hb dX13_of_147 ?_
    exact x_iret X O rfl _ (Option.some.inj hf).symm rfl dX13_of_148
  · replace hf := if_f c_9 hf
    by_cases c_10 : (gI σ_7 23 v 0 2) = 42
    · replace hf := if_t c_10 hf
      have h9 : (Int32.toInt (gI σ_7 23 v 0 2)) = 42 := by rw [c_10]; rfl
      refine lv_lookup (tgt := 104) (off := 82) hx hb dX13_of_22 (by decide) (by first | (rw [h9]; done) | (rw [h9]; rfl)) (by decide) ?_
      refine lv_iload_n hx hb dX13_of_104 rfl (lv_at hl 1 rfl) ?_
      refine lv_iload_n hx hb dX13_of_105 rfl (lv_at hl 0 rfl) ?_
      refine lv_imul hx hb dX13_of_106 ?_
      exact x_iret X O rfl _ (Option.some.inj hf).symm rfl dX13_of_107
    · replace hf := if_f c_10 hf
      by_cases c_11 : (gI σ_7 23 v 0 2) = 43
      · replace hf := if_t c_11 hf
        have h9 : (Int32.toInt (gI σ_7 23 v 0 2)) = 43 := by rw [c_11]; rfl
        refine lv_lookup (tgt := 96) (off := 74) hx hb dX13_of_22 (by decide) (by first | (rw [h9]; done) | (rw [h9]; rfl)) (by decide) ?_
        refine lv_iload_n hx hb dX13_of_96 rfl (lv_at hl 1 rfl) ?_
        refine lv_iload_n hx hb dX13_of_97 rfl (lv_at hl 0 rfl) ?_
        refine lv_iadd hx hb dX13_of_98 ?_
        exact x_iret X O rfl _ (Option.some.inj hf).symm rfl dX13_of_99
      · replace hf := if_f c_11 hf
        by_cases c_12 : (gI σ_7 23 v 0 2) = 45
        · replace hf := if_t c_12 hf
          have h9 : (Int32.toInt (gI σ_7 23 v 0 2)) = 45 := by rw [c_12]; rfl
          refine lv_lookup (tgt := 100) (off := 78) hx hb dX13_of_22 (by decide) (by first | (rw [h9]; done) | (rw [h9]; rfl)) (by decide) ?_
          refine lv_iload_n hx hb dX13_of_100 rfl (lv_at hl 1 rfl) ?_
          refine lv_iload_n hx hb dX13_of_101 rfl (lv_at hl 0 rfl) ?_
          refine lv_isub hx hb dX13_of_102 ?_
          exact x_iret X O rfl _ (Option.some.inj hf).symm rfl dX13_of_103
        · replace hf := if_f c_12 hf
          by_cases c_13 : (gI σ_7 23 v 0 2) = 47
          · replace hf := if_t c_13 hf
            have h9 : (Int32.toInt (gI σ_7 23 v 0 2)) = 47 := by rw [c_13]; rfl
            refine lv_lookup (tgt := 108) (off := 86) hx hb dX13_of_22 (by decide) (by first | (rw [h9]; done) | (rw [h9]; rfl)) (by decide) ?_
            refine lv_iload_n hx hb dX13_of_108 rfl (lv_at hl 1 rfl) ?_
            refine lv_iload_n hx hb dX13_of_109 rfl (lv_at hl 0 rfl) ?_
            obtain ⟨c_14, hf⟩ := ck_s hf
            refine lv_idiv hx hb dX13_of_110 (of_decide_eq_true c_14) ?_
            exact x_iret X O rfl _ (Option.some.inj hf).symm rfl dX13_of_111
          · replace hf := if_f c_13 hf
            by_cases c_15 : (gI σ_7 23 v 0 2) = 60
            · replace hf := if_t c_15 hf
              have h9 : (Int32.toInt (gI σ_7 23 v 0 2)) = 60 := by rw [c_15]; rfl
              refine lv_lookup (tgt := 112) (off := 90) hx hb dX13_of_22 (by decide) (by first | (rw [h9]; done) | (rw [h9]; rfl)) (by decide) ?_
              refine lv_iload_n hx hb dX13_of_112 rfl (lv_at hl 1 rfl) ?_
              refine lv_iload_n hx hb dX13_of_113 rfl (lv_at hl 0 rfl) ?_
              refine lv_icmp_ge (tgt := 121) hx hb dX13_of_114 (by decide) (fun c_16 => ?_) (fun c_16 => ?_)
              · replace hf := if_t c_16 hf
                refine lv_iconst (v := 0) hx hb dX13_of_121 (by decide) ?_
                exact x_iret X O rfl _ (Option.some.inj hf).symm rfl dX13_of_122
              · replace hf := if_f c_16 hf
                refine lv_iconst (v := 1) hx hb dX13_of_117 (by decide) ?_
                refine lv_goto (tgt := 122) hx hb dX13_of_118 (by decide) ?_
                exact x_iret X O rfl _ (Option.some.inj hf).symm rfl dX13_of_122
            · replace hf := if_f c_15 hf
              by_cases c_17 : (gI σ_7 23 v 0 2) = 61
              · replace hf := if_t c_17 hf
                have h9 : (Int32.toInt (gI σ_7 23 v 0 2)) = 61 := by rw [c_17]; rfl
                refine lv_lookup (tgt := 123) (off := 101) hx hb dX13_of_22 (by decide) (by first | (rw [h9]; done) | (rw [h9]; rfl)) (by decide) ?_
                refine lv_iload_n hx hb dX13_of_123 rfl (lv_at hl 1 rfl) ?_
                refine lv_iload_n hx hb dX13_of_124 rfl (lv_at hl 0 rfl) ?_
                refine lv_icmp_ne (tgt := 132) hx hb dX13_of_125 (by decide) (fun c_18 => ?_) (fun c_18 => ?_)
                · replace hf := if_f c_18 hf
                  refine lv_iconst (v := 0) hx hb dX13_of_132 (by decide) ?_
                  exact x_iret X O rfl _ (Option.some.inj hf).symm rfl dX13_of_133
                · replace hf := if_t c_18 hf
                  refine lv_iconst (v := 1) hx hb dX13_of_128 (by decide) ?_
                  refine lv_goto (tgt := 133) hx hb dX13_of_129 (by decide) ?_
                  exact x_iret X O rfl _ (Option.some.inj hf).symm rfl dX13_of_133
              · replace hf := if_f c_17 hf
                by_cases c_19 : (gI σ_7 23 v 0 2) = 62
                · replace hf := if_t c_19 hf
                  have h9 : (Int32.toInt (gI σ_7 23 v 0 2)) = 62 := by rw [c_19]; rfl
                  refine lv_lookup (tgt := 134) (off := 112) hx hb dX13_of_22 (by decide) (by first | (rw [h9]; done) | (rw [h9]; rfl)) (by decide) ?_
                  refine lv_iload_n hx hb dX13_of_134 rfl (lv_at hl 1 rfl) ?_
                  refine lv_iload_n hx hb dX13_of_135 rfl (lv_at hl 0 rfl) ?_
                  refine lv_icmp_le (tgt := 143) hx hb dX13_of_136 (by decide) (fun c_20 => ?_) (fun c_20 => ?_)
                  · replace hf := if_t c_20 hf
                    refine lv_iconst (v := 0) hx hb dX13_of_143 (by decide) ?_
                    exact x_iret X O rfl _ (Option.some.inj hf).symm rfl dX13_of_144
                  · replace hf := if_f c_20 hf
                    refine lv_iconst (v := 1) hx hb dX13_of_139 (by decide) ?_
                    refine lv_goto (tgt := 144) hx hb dX13_of_140 (by decide) ?_
                    exact x_iret X O rfl _ (Option.some.inj hf).symm rfl dX13_of_144
                · replace hf := if_f c_19 hf
                  refine lv_lookup (tgt := 149) (off := 127) hx hb dX13_of_22 (by decide) (by refine (lv_osw (k := 5) c_9 rfl).trans ?_; refine (lv_osw (k := 42) c_10 rfl).trans ?_; refine (lv_osw (k := 43) c_11 rfl).trans ?_; refine (lv_osw (k := 45) c_12 rfl).trans ?_; refine (lv_osw (k := 47) c_13 rfl).trans ?_; refine (lv_osw (k := 60) c_15 rfl).trans ?_; refine (lv_osw (k := 61) c_17 rfl).trans ?_; refine (lv_osw (k := 62) c_19 rfl).trans ?_; rfl) (by decide) ?_
                  refine lv_iload_n hx hb dX13_of_149 rfl (lv_at hl 1 rfl) ?_
                  refine lv_iload_n hx hb dX13_of_150 rfl (lv_at hl 0 rfl) ?_
                  refine lv_ior hx hb dX13_of_151 ?_
                  exact x_iret X O rfl _ (Option.some.inj hf).symm rfl dX13_of_152

def ev (Δ : DT) (ask : ST → Int32 → Option (ST × Int32)) (va vb : Nat) : Nat → ST → Nat → Option (ST × Int32)
  | 0, _, _ => none
  | n + 1, σ, t => match Δ 23 t with
    | some 8 => C_X10_of Δ (ev Δ ask va vb n) t va vb σ
    | some 9 => C_X11_of Δ t va vb σ
    | some 10 => C_X12_of Δ ask t va vb σ
    | some 11 => C_X13_of Δ (ev Δ ask va vb n) t va vb σ
    | _ => none
def TF : Nat := 420
theorem m_ev {l : Launch} {D : va_G} {d : Nat → ClassId} {hs : IX} {Δ : DT} {ask : ST → Int32 → Option (ST × Int32)} {va vb dA : Nat} (hc : okC Δ 2 va vb = true) (hask : ∀ {σ : ST} {w : Int32} {z : ST × Int32}, ask σ w = some z → XM l D d EN yX2_fact cX2_fact 3 (some .int) dA 0 0 [.ref (hC hs 2 va vb), .int w] (hC hs) (xct (LC Δ) (okC Δ) (hC hs) d σ) (Qi D (pz z) (cw (hC hs) (LC Δ) (okC Δ) d))) : ∀ (n : Nat) {σ : ST} {t : Nat} {z : ST × Int32}, ev Δ ask va vb n σ t = some z → TMet l D d hs Δ va vb (dA + n) σ t z := by
  intro n
  induction n with
  | zero => intro σ t z hf; exact absurd hf (fun q => by cases q)
  | succ n ih =>
    intro σ t z hf
    rw [ev] at hf
    split at hf
    · rename_i hk
      exact Or.inl ⟨hk, m_C_X10_of (dA + n) ih hk hc hf⟩
    · rename_i hk
      exact Or.inr (Or.inl ⟨hk, m_C_X11_of (dA + n) hk hc hf⟩)
    · rename_i hk
      exact Or.inr (Or.inr (Or.inl ⟨hk, m_C_X12_of (dA + n) dA (Nat.le_add_right _ _) hask hk hc hf⟩))
    · rename_i hk
      exact Or.inr (Or.inr (Or.inr ⟨hk, m_C_X13_of (dA + n) ih hk hc hf⟩))
    · exact absurd hf (fun q => by cases q)

end CW
