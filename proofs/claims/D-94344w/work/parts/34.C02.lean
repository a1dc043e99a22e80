section CW
variable {p : Program} {l : Launch} {e : Env} {s : State} {m : MethodId} {args : Array Value} {below : List Frame} {meth : Method} {c : Code} {D : va_G} {A : Nat → Prop} {hs : IX} {d : Nat → ClassId} {Δ : DT}

theorem hdV_X3_notch : yX3_notch.cls = RX3 ∧ (yX3_notch.cls ≠ "java/lang/invoke/MethodHandle" ∧ yX3_notch.cls ≠ "java/lang/invoke/VarHandle" ∧ (parseMethodDescriptor yX3_notch.desc).map (fun d => d.parameters.length) = some 1) := by decide +kernel
def C_X2_factL (Δ : DT) (v : Nat) (w : Nat) (σ : ST) (p1 : Int32) : Option (ST × Int32) :=
  ck (decide (¬ gR σ 2 v w 0 = 0)) (ck ((okC Δ) 1 (gR σ 2 v w 0 - 1) 0) (ck (okI (gI σ 2 v w 1) 12) ((if p1 = 0 then bn2 (C_X3_notch Δ (gR σ 2 v w 0 - 1) (Int32.toNatClampNeg (gI σ 2 v w 1)) σ p1) (fun σ_5 r_6 => some (σ_5, r_6)) else if p1 = 1 then bn2 (C_X3_notch Δ (gR σ 2 v w 0 - 1) (Int32.toNatClampNeg (gI σ 2 v w 1)) σ p1) (fun σ_8 r_9 => some (σ_8, r_9)) else if p1 = 2 then bn2 (C_X3_notch Δ (gR σ 2 v w 0 - 1) (Int32.toNatClampNeg (gI σ 2 v w 1)) σ p1) (fun σ_11 r_12 => some (σ_11, r_12)) else if p1 = 3 then bn2 (C_X3_notch Δ (gR σ 2 v w 0 - 1) (Int32.toNatClampNeg (gI σ 2 v w 1)) σ p1) (fun σ_14 r_15 => some (σ_14, r_15)) else if p1 = 4 then some (σ, (gI σ 2 v w 3)) else if p1 = 5 then some (σ, (gI σ 9 (gR σ 2 v w 0 - 1) (Int32.toNatClampNeg (gI σ 2 v w 1)) 1)) else if p1 = 6 then ck (decide (¬ gR σ 2 v w 0 = 0)) (ck ((okC Δ) 1 (gR σ 2 v w 0 - 1) 0) (some (σ, (gI σ 1 (gR σ 2 v w 0 - 1) 0 7)))) else if p1 = 7 then ck (decide (¬ gR σ 2 v w 0 = 0)) (ck ((okC Δ) 1 (gR σ 2 v w 0 - 1) 0) (ck (okI (gI σ 2 v w 2) 12) (bn2 (C_X3_notch Δ (gR σ 2 v w 0 - 1) (Int32.toNatClampNeg (gI σ 2 v w 2)) σ (p1 - 7)) (fun σ_25 r_26 => some (σ_25, r_26))))) else if p1 = 8 then ck (decide (¬ gR σ 2 v w 0 = 0)) (ck ((okC Δ) 1 (gR σ 2 v w 0 - 1) 0) (ck (okI (gI σ 2 v w 2) 12) (bn2 (C_X3_notch Δ (gR σ 2 v w 0 - 1) (Int32.toNatClampNeg (gI σ 2 v w 2)) σ (p1 - 7)) (fun σ_31 r_32 => some (σ_31, r_32))))) else if p1 = 9 then ck (decide (¬ gR σ 2 v w 0 = 0)) (ck ((okC Δ) 1 (gR σ 2 v w 0 - 1) 0) (ck (okI (gI σ 2 v w 2) 12) (bn2 (C_X3_notch Δ (gR σ 2 v w 0 - 1) (Int32.toNatClampNeg (gI σ 2 v w 2)) σ (p1 - 7)) (fun σ_37 r_38 => some (σ_37, r_38))))) else if p1 = 10 then ck (decide (¬ gR σ 2 v w 0 = 0)) (ck ((okC Δ) 1 (gR σ 2 v w 0 - 1) 0) (ck (okI (gI σ 2 v w 2) 12) (bn2 (C_X3_notch Δ (gR σ 2 v w 0 - 1) (Int32.toNatClampNeg (gI σ 2 v w 2)) σ (p1 - 7)) (fun σ_43 r_44 => some (σ_43, r_44))))) else if p1 = 11 then ck (decide (¬ gR σ 2 v w 0 = 0)) (ck ((okC Δ) 1 (gR σ 2 v w 0 - 1) 0) (ck (okI (gI σ 2 v w 2) 12) (some (σ, (gI σ 9 (gR σ 2 v w 0 - 1) (Int32.toNatClampNeg (gI σ 2 v w 2)) 1))))) else if p1 = 12 then none else if p1 = 13 then none else if p1 = 14 then some (σ, (gI σ 9 (gR σ 2 v w 0 - 1) (Int32.toNatClampNeg (gI σ 2 v w 1)) 7)) else ck (decide (¬ gR σ 2 v w 0 = 0)) (ck ((okC Δ) 1 (gR σ 2 v w 0 - 1) 0) (ck (okI (gI σ 2 v w 2) 12) (bn2 (C_X3_notch Δ (gR σ 2 v w 0 - 1) (Int32.toNatClampNeg (gI σ 2 v w 2)) σ (p1 - 7)) (fun σ_55 r_56 => some (σ_55, r_56)))))))))
theorem m_C_X2_factL {l : Launch} {D : va_G} {d : Nat → ClassId} {hs : IX} {Δ : DT} {v : Nat} {w : Nat} {p1 : Int32} {σ : ST} {z : ST × Int32} (hk : okC Δ 2 v w = true) (hf : C_X2_factL Δ v w σ p1 = some z) : XM l D d EN yX2_fact cX2_fact 3 (some .int) 1 0 0 [.ref ((hC hs) 2 v w), .int p1] (hC hs) (xct (LC Δ) (okC Δ) (hC hs) d σ) (Qi D (pz z) (cw (hC hs) (LC Δ) (okC Δ) d)) := by
  refine XM.of (by decide +kernel) (Nat.le_of_ble_eq_true rfl) ?_
  intro p e s m below meth c A ls X _ K _ O hl
  have hl : lv_has ls 3 [(0, .ref ((hC hs) 2 v w)), (1, .int p1)] := hl
  have hx := X.1.1; have hb := X.1.2.1
  rw [C_X2_factL] at hf
  refine lv_aload_n hx hb dX2_fact_0 rfl (lv_at hl 0 rfl) ?_
  obtain ⟨c_1, hf⟩ := ck_s hf
  obtain ⟨c_2, hf⟩ := ck_s hf
  refine x_gQ X K O 0 (of_decide_eq_true c_1) hk LC_2 rfl rfl in_X2 (by decide) q253 dX2_fact_1 ?_
  refine x_gFN X K O 0 c_2 LC_1 rfl rfl in_X1 (by decide) q294 dX2_fact_4 ?_
  refine lv_aload_n hx hb dX2_fact_7 rfl (lv_at hl 0 rfl) ?_
  refine x_gI X K O 1 hk LC_2 rfl rfl in_X2 (by decide) q254 dX2_fact_8 ?_
  obtain ⟨c_3, hf⟩ := ck_s hf
  refine x_ald X K O 3 c_2 LC_5 (by decide) rfl rfl c_3 (j := (Int32.toNatClampNeg (gI σ 2 v w 1))) rfl dX2_fact_11 ?_
  refine lv_astore_n (lv' := [(2, .ref ((hC hs) 8 (gR σ 2 v w 0 - 1) (Int32.toNatClampNeg (gI σ 2 v w 1)))), (0, .ref ((hC hs) 2 v w)), (1, .int p1)]) hx hb dX2_fact_12 rfl hl (by decide) rfl (fun ls hl => ?_)
  refine lv_iload_n hx hb dX2_fact_13 rfl (lv_at hl 2 rfl) ?_
  by_cases c_4 : p1 = 0
  · replace hf := if_t c_4 hf
    have h9 : (Int32.toInt p1) = 0 := by rw [c_4]; rfl
    refine lv_tableIn (tgt := 88) hx hb dX2_fact_14 (by rw [h9]; decide) (by rw [h9]; decide) (by rw [h9]; rfl) (by decide) ?_
    refine lv_aload_n hx hb dX2_fact_88 rfl (lv_at hl 0 rfl) ?_
    refine lv_iload_n hx hb dX2_fact_89 rfl (lv_at hl 2 rfl) ?_
    obtain ⟨σ_5, r_6, hg, hf⟩ := bn2_s hf
    refine x_calli (x_runV (As := [.int p1]) (rest := []) X K O (xct_obj (oks_b c_2 (okI_lt c_3)) LC_8) rfl (m_C_X3_notch (oks_b c_2 (okI_lt c_3)) hg) EN_b EN_h (lw_V q850 q851 q852 q121 q853) 1 rfl hl.1 (Nat.le_of_ble_eq_true rfl) hdV_X3_notch ⟨by decide, by decide⟩ ⟨Nat.le_refl _, Nat.le_refl _⟩ dX2_fact_90) (fun r u H locs hp O _ => ?_)
    cases hp
    have O : XH D A s.heap (hC hs) (xct (LC Δ) (okC Δ) (hC hs) d σ_5) H locs := O
    exact x_iret X O rfl _ (Option.some.inj hf).symm rfl dX2_fact_93
  · replace hf := if_f c_4 hf
    by_cases c_7 : p1 = 1
    · replace hf := if_t c_7 hf
      have h9 : (Int32.toInt p1) = 1 := by rw [c_7]; rfl
      refine lv_tableIn (tgt := 88) hx hb dX2_fact_14 (by rw [h9]; decide) (by rw [h9]; decide) (by rw [h9]; rfl) (by decide) ?_
      refine lv_aload_n hx hb dX2_fact_88 rfl (lv_at hl 0 rfl) ?_
      refine lv_iload_n hx hb dX2_fact_89 rfl (lv_at hl 2 rfl) ?_
      obtain ⟨σ_8, r_9, hg, hf⟩ := bn2_s hf
      refine x_calli (x_runV (As := [.int p1]) (rest := []) X K O (xct_obj (oks_b c_2 (okI_lt c_3)) LC_8) rfl (m_C_X3_notch (oks_b c_2 (okI_lt c_3)) hg) EN_b EN_h (lw_V q850 q851 q852 q121 q853) 1 rfl hl.1 (Nat.le_of_ble_eq_true rfl) hdV_X3_notch ⟨by decide, by decide⟩ ⟨Nat.le_refl _, Nat.le_refl _⟩ dX2_fact_90) (fun r u H locs hp O _ => ?_)
      cases hp
      have O : XH D A s.heap (hC hs) (xct (LC Δ) (okC Δ) (hC hs) d σ_8) H locs := O
      exact x_iret X O rfl _ (Option.some.inj hf).symm rfl dX2_fact_93
    · replace hf := if_f c_7 hf
      by_cases c_10 : p1 = 2
      · replace hf := if_t c_10 hf
        have h9 : (Int32.toInt p1) = 2 := by rw [c_10]; rfl
        refine lv_tableIn (tgt := 88) hx hb dX2_fact_14 (by rw [h9]; decide) (by rw [h9]; decide) (by rw [h9]; rfl) (by decide) ?_
        refine lv_aload_n hx hb dX2_fact_88 rfl (lv_at hl 0 rfl) ?_
        refine lv_iload_n hx hb dX2_fact_89 rfl (lv_at hl 2 rfl) ?_
        obtain ⟨σ_11, r_12, hg, hf⟩ := bn2_s hf
        refine x_calli (x_runV (As := [.int p1]) (rest := []) X K O (xct_obj (oks_b c_2 (okI_lt c_3)) LC_8) rfl (m_C_X3_notch (oks_b c_2 (okI_lt c_3)) hg) EN_b EN_h (lw_V q850 q851 q852 q121 q853) 1 rfl hl.1 (Nat.le_of_ble_eq_true rfl) hdV_X3_notch ⟨by decide, by decide⟩ ⟨Nat.le_refl _, Nat.le_refl _⟩ dX2_fact_90) (fun r u H locs hp O _ => ?_)
        cases hp
        have O : XH D A s.heap (hC hs) (xct (LC Δ) (okC Δ) (hC hs) d σ_11) H locs := O
        exact x_iret X O rfl _ (Option.some.inj hf).symm rfl dX2_fact_93
      · replace hf := if_f c_10 hf
        by_cases c_13 : p1 = 3
        · replace hf := if_t c_13 hf
          have h9 : (Int32.toInt p1) = 3 := by rw [c_13]; rfl
          refine lv_tableIn (tgt := 88) hx hb dX2_fact_14 (by rw [h9]; decide) (by rw [h9]; decide) (by rw [h9]; rfl) (by decide) ?_
          refine lv_aload_n hx hb dX2_fact_88 rfl (lv_at hl 0 rfl) ?_
          refine lv_iload_n hx hb dX2_fact_89 rfl (lv_at hl 2 rfl) ?_
          obtain ⟨σ_14, r_15, hg, hf⟩ := bn2_s hf
          refine x_calli (x_runV (As := [.int p1]) (rest := []) X K O (xct_obj (oks_b c_2 (okI_lt c_3)) LC_8) rfl (m_C_X3_notch (oks_b c_2 (okI_lt c_3)) hg) EN_b EN_h (lw_V q850 q851 q852 q121 q853) 1 rfl hl.1 (Nat.le_of_ble_eq_true rfl) hdV_X3_notch ⟨by decide, by decide⟩ ⟨Nat.le_refl _, Nat.le_refl _⟩ dX2_fact_90) (fun r u H locs hp O _ => ?_)
          cases hp
          have O : XH D A s.heap (hC hs) (xct (LC Δ) (okC Δ) (hC hs) d σ_14) H locs := O
          exact x_iret X O rfl _ (Option.some.inj hf).symm rfl dX2_fact_93
        · replace hf := if_f c_13 hf
          by_cases c_16 : p1 = 4
          · replace hf := if_t c_16 hf
            have h9 : (Int32.toInt p1) = 4 := by rw [c_16]; rfl
            refine lv_tableIn (tgt := 94) hx hb dX2_fact_14 (by rw [h9]; decide) (by rw [h9]; decide) (by rw [h9]; rfl) (by decide) ?_
            refine lv_aload_n hx hb dX2_fact_94 rfl (lv_at hl 1 rfl) ?_
            refine x_gI X K O 3 hk LC_2 rfl rfl in_X2 (by decide) q256 dX2_fact_95 ?_
            exact x_iret X O rfl _ (Option.some.inj hf).symm rfl dX2_fact_98
          · replace hf := if_f c_16 hf
            by_cases c_17 : p1 = 5
            · replace hf := if_t c_17 hf
              have h9 : (Int32.toInt p1) = 5 := by rw [c_17]; rfl
              refine lv_tableIn (tgt := 99) hx hb dX2_fact_14 (by rw [h9]; decide) (by rw [h9]; decide) (by rw [h9]; rfl) (by decide) ?_
              refine lv_aload_n hx hb dX2_fact_99 rfl (lv_at hl 0 rfl) ?_
              refine x_gFN X K O 0 (oks_b c_2 (okI_lt c_3)) LC_8 rfl rfl in_X3 (by decide) q276 dX2_fact_100 ?_
              refine lv_iconst (v := 1) hx hb dX2_fact_103 (by decide) ?_
              refine x_ild X K O (oks_b c_2 (okI_lt c_3)) LC_9 (by decide) (j := 1) rfl dX2_fact_104 ?_
              exact x_iret X O rfl _ (Option.some.inj hf).symm rfl dX2_fact_105
            · replace hf := if_f c_17 hf
              by_cases c_18 : p1 = 6
              · replace hf := if_t c_18 hf
                have h9 : (Int32.toInt p1) = 6 := by rw [c_18]; rfl
                refine lv_tableIn (tgt := 106) hx hb dX2_fact_14 (by rw [h9]; decide) (by rw [h9]; decide) (by rw [h9]; rfl) (by decide) ?_
                refine lv_aload_n hx hb dX2_fact_106 rfl (lv_at hl 1 rfl) ?_
                obtain ⟨c_19, hf⟩ := ck_s hf
                obtain ⟨c_20, hf⟩ := ck_s hf
                refine x_gQ X K O 0 (of_decide_eq_true c_19) hk LC_2 rfl rfl in_X2 (by decide) q253 dX2_fact_107 ?_
                refine x_gIN X K O 7 c_20 LC_1 rfl rfl in_X1 (by decide) q308 dX2_fact_110 ?_
                exact x_iret X O rfl _ (Option.some.inj hf).symm rfl dX2_fact_113
              · replace hf := if_f c_18 hf
                by_cases c_21 : p1 = 7
                · replace hf := if_t c_21 hf
                  have h9 : (Int32.toInt p1) = 7 := by rw [c_21]; rfl
                  refine lv_tableIn (tgt := 188) hx hb dX2_fact_14 (by rw [h9]; decide) (by rw [h9]; decide) (by rw [h9]; rfl) (by decide) ?_
                  refine lv_aload_n hx hb dX2_fact_188 rfl (lv_at hl 1 rfl) ?_
                  obtain ⟨c_22, hf⟩ := ck_s hf
                  obtain ⟨c_23, hf⟩ := ck_s hf
                  refine x_gQ X K O 0 (of_decide_eq_true c_22) hk LC_2 rfl rfl in_X2 (by decide) q253 dX2_fact_189 ?_
                  refine x_gFN X K O 0 c_23 LC_1 rfl rfl in_X1 (by decide) q294 dX2_fact_192 ?_
                  refine lv_aload_n hx hb dX2_fact_195 rfl (lv_at hl 1 rfl) ?_
                  refine x_gI X K O 2 hk LC_2 rfl rfl in_X2 (by decide) q255 dX2_fact_196 ?_
                  obtain ⟨c_24, hf⟩ := ck_s hf
                  refine x_ald X K O 3 c_23 LC_5 (by decide) rfl rfl c_24 (j := (Int32.toNatClampNeg (gI σ 2 v w 2))) rfl dX2_fact_199 ?_
                  refine lv_iload_n hx hb dX2_fact_200 rfl (lv_at hl 2 rfl) ?_
                  refine lv_bipush (v := 7) hx hb dX2_fact_201 (by decide) ?_
                  refine lv_isub hx hb dX2_fact_203 ?_
                  obtain ⟨σ_25, r_26, hg, hf⟩ := bn2_s hf
                  refine x_calli (x_runV (As := [.int (p1 - 7)]) (rest := []) X K O (xct_obj (oks_b c_23 (okI_lt c_24)) LC_8) rfl (m_C_X3_notch (oks_b c_23 (okI_lt c_24)) hg) EN_b EN_h (lw_V q850 q851 q852 q121 q853) 1 rfl hl.1 (Nat.le_of_ble_eq_true rfl) hdV_X3_notch ⟨by decide, by decide⟩ ⟨Nat.le_refl _, Nat.le_refl _⟩ dX2_fact_204) (fun r u H locs hp O _ => ?_)
                  cases hp
                  have O : XH D A s.heap (hC hs) (xct (LC Δ) (okC Δ) (hC hs) d σ_25) H locs := O
                  exact x_iret X O rfl _ (Option.some.inj hf).symm rfl dX2_fact_207
                · replace hf := if_f c_21 hf
                  by_cases c_27 : p1 = 8
                  · replace hf := if_t c_27 hf
                    have h9 : (Int32.toInt p1) = 8 := by rw [c_27]; rfl
                    refine lv_tableIn (tgt := 188) hx hb dX2_fact_14 (by rw [h9]; decide) (by rw [h9]; decide) (by rw [h9]; rfl) (by decide) ?_
                    refine lv_aload_n hx hb dX2_fact_188 rfl (lv_at hl 1 rfl) ?_
                    obtain ⟨c_28, hf⟩ := ck_s hf
                    obtain ⟨c_29, hf⟩ := ck_s hf
                    refine x_gQ X K O 0 (of_decide_eq_true c_28) hk LC_2 rfl rfl in_X2 (by decide) q253 dX2_fact_189 ?_
                    refine x_gFN X K O 0 c_29 LC_1 rfl rfl in_X1 (by decide) q294 dX2_fact_192 ?_
                    refine lv_aload_n hx hb dX2_fact_195 rfl (lv_at hl 1 rfl) ?_
                    refine x_gI X K O 2 hk LC_2 rfl rfl in_X2 (by decide) q255 dX2_fact_196 ?_
                    obtain ⟨c_30, hf⟩ := ck_s hf
                    refine x_ald X K O 3 c_29 LC_5 (by decide) rfl rfl c_30 (j := (Int32.toNatClampNeg (gI σ 2 v w 2))) rfl dX2_fact_199 ?_
                    refine lv_iload_n hx hb dX2_fact_200 rfl (lv_at hl 2 rfl) ?_
                    refine lv_bipush (v := 7) hx hb dX2_fact_201 (by decide) ?_
                    refine lv_isub hx hb dX2_fact_203 ?_
                    obtain ⟨σ_31, r_32, hg, hf⟩ := bn2_s hf
                    refine x_calli (x_runV (As := [.int (p1 - 7)]) (rest := []) X K O (xct_obj (oks_b c_29 (okI_lt c_30)) LC_8) rfl (m_C_X3_notch (oks_b c_29 (okI_lt c_30)) hg) EN_b EN_h (lw_V q850 q851 q852 q121 q853) 1 rfl hl.1 (Nat.le_of_ble_eq_true rfl) hdV_X3_notch ⟨by decide, by decide⟩ ⟨Nat.le_refl _, Nat.le_refl _⟩ dX2_fact_204) (fun r u H locs hp O _ => ?_)
                    cases hp
                    have O : XH D A s.heap (hC hs) (xct (LC Δ) (okC Δ) (hC hs) d σ_31) H locs := O
                    exact x_iret X O rfl _ (Option.some.inj hf).symm rfl dX2_fact_207
                  · replace hf := if_f c_27 hf
                    by_cases c_33 : p1 = 9
                    · replace hf := if_t c_33 hf
                      have h9 : (Int32.toInt p1) = 9 := by rw [c_33]; rfl
                      refine lv_tableIn (tgt := 188) hx hb dX2_fact_14 (by rw [h9]; decide) (by rw [h9]; decide) (by rw [h9]; rfl) (by decide) ?_
                      refine lv_aload_n hx hb dX2_fact_188 rfl (lv_at hl 1 rfl) ?_
                      obtain ⟨c_34, hf⟩ := ck_s hf
                      obtain ⟨c_35, hf⟩ := ck_s hf
                      refine x_gQ X K O 0 (of_decide_eq_true c_34) hk LC_2 rfl rfl in_X2 (by decide) q253 dX2_fact_189 ?_
                      refine x_gFN X K O 0 c_35 LC_1 rfl rfl in_X1 (by decide) q294 dX2_fact_192 ?_
                      refine lv_aload_n hx hb dX2_fact_195 rfl (lv_at hl 1 rfl) ?_
                      refine x_gI X K O 2 hk LC_2 rfl rfl in_X2 (by decide) q255 dX2_fact_196 ?_
                      obtain ⟨c_36, hf⟩ := ck_s hf
                      refine x_ald X K O 3 c_35 LC_5 (by decide) rfl rfl c_36 (j := (Int32.toNatClampNeg (gI σ 2 v w 2))) rfl dX2_fact_199 ?_
                      refine lv_iload_n hx hb dX2_fact_200 rfl (lv_at hl 2 rfl) ?_
                      refine lv_bipush (v := 7) hx hb dX2_fact_201 (by decide) ?_
                      refine lv_isub hx hb dX2_fact_203 ?_
                      obtain ⟨σ_37, r_38, hg, hf⟩ := bn2_s hf
                      refine x_calli (x_runV (As := [.int (p1 - 7)]) (rest := []) X K O (xct_obj (oks_b c_35 (okI_lt c_36)) LC_8) rfl (m_C_X3_notch (oks_b c_35 (okI_lt c_36)) hg) EN_b EN_h (lw_V q850 q851 q852 q121 q853) 1 rfl hl.1 (Nat.le_of_ble_eq_true rfl) hdV_X3_notch ⟨by decide, by decide⟩ ⟨Nat.le_refl _, Nat.le_refl _⟩ dX2_fact_204) (fun r u H locs hp O _ => ?_)
                      cases hp
                      have O : XH D A s.heap (hC hs) (xct (LC Δ) (okC Δ) (hC hs) d σ_37) H locs := O
                      exact x_iret X O rfl _ (Option.some.inj hf).symm rfl dX2_fact_207
                    · replace hf := if_f c_33 hf
                      by_cases c_39 : p1 = 10
                      · replace hf := if_t c_39 hf
                        have h9 : (Int32.toInt p1) = 10 := by rw [c_39]; rfl
                        refine lv_tableIn (tgt := 188) hx hb dX2_fact_14 (by rw [h9]; decide) (by rw [h9]; decide) (by rw [h9]; rfl) (by decide) ?_
                        refine lv_aload_n hx hb dX2_fact_188 rfl (lv_at hl 1 rfl) ?_
                        obtain ⟨c_40, hf⟩ := ck_s hf
                        obtain ⟨c_41, hf⟩ := ck_s hf
                        refine x_gQ X K O 0 (of_decide_eq_true c_40) hk LC_2 rfl rfl in_X2 (by decide) q253 dX2_fact_189 ?_
                        refine x_gFN X K O 0 c_41 LC_1 rfl rfl in_X1 (by decide) q294 dX2_fact_192 ?_
                        refine lv_aload_n hx hb dX2_fact_195 rfl (lv_at hl 1 rfl) ?_
                        refine x_gI X K O 2 hk LC_2 rfl rfl in_X2 (by decide) q255 dX2_fact_196 ?_
                        obtain ⟨c_42, hf⟩ := ck_s hf
                        refine x_ald X K O 3 c_41 LC_5 (by decide) rfl rfl c_42 (j := (Int32.toNatClampNeg (gI σ 2 v w 2))) rfl dX2_fact_199 ?_
                        refine lv_iload_n hx hb dX2_fact_200 rfl (lv_at hl 2 rfl) ?_
                        refine lv_bipush (v := 7) hx hb dX2_fact_201 (by decide) ?_
                        refine lv_isub hx hb dX2_fact_203 ?_
                        obtain ⟨σ_43, r_44, hg, hf⟩ := bn2_s hf
                        refine x_calli (x_runV (As := [.int (p1 - 7)]) (rest := []) X K O (xct_obj (oks_b c_41 (okI_lt c_42)) LC_8) rfl (m_C_X3_notch (oks_b c_41 (okI_lt c_42)) hg) EN_b EN_h (lw_V q850 q851 q852 q121 q853) 1 rfl hl.1 (Nat.le_of_ble_eq_true rfl) hdV_X3_notch ⟨by decide, by decide⟩ ⟨Nat.le_refl _, Nat.le_refl _⟩ dX2_fact_204) (fun r u H locs hp O _ => ?_)
                        cases hp
                        have O : XH D A s.heap (hC hs) (xct (LC Δ) (okC Δ) (hC hs) d σ_43) H locs := O
                        exact x_iret X O rfl _ (Option.some.inj hf).symm rfl dX2_fact_207
                      · replace hf := if_f c_39 hf
                        by_cases c_45 : p1 = 11
                        · replace hf := if_t c_45 hf
                          have h9 : (Int32.toInt p1) = 11 := by rw [c_45]; rfl
                          refine lv_tableIn (tgt := 114) hx hb dX2_fact_14 (by rw [h9]; decide) (by rw [h9]; decide) (by rw [h9]; rfl) (by decide) ?_
                          refine lv_aload_n hx hb dX2_fact_114 rfl (lv_at hl 1 rfl) ?_
                          obtain ⟨c_46, hf⟩ := ck_s hf
                          obtain ⟨c_47, hf⟩ := ck_s hf
                          refine x_gQ X K O 0 (of_decide_eq_true c_46) hk LC_2 rfl rfl in_X2 (by decide) q253 dX2_fact_115 ?_
                          refine x_gFN X K O 0 c_47 LC_1 rfl rfl in_X1 (by decide) q294 dX2_fact_118 ?_
                          refine lv_aload_n hx hb dX2_fact_121 rfl (lv_at hl 1 rfl) ?_
                          refine x_gI X K O 2 hk LC_2 rfl rfl in_X2 (by decide) q255 dX2_fact_122 ?_
                          obtain ⟨c_48, hf⟩ := ck_s hf
                          refine x_ald X K O 3 c_47 LC_5 (by decide) rfl rfl c_48 (j := (Int32.toNatClampNeg (gI σ 2 v w 2))) rfl dX2_fact_125 ?_
                          refine x_gFN X K O 0 (oks_b c_47 (okI_lt c_48)) LC_8 rfl rfl in_X3 (by decide) q276 dX2_fact_126 ?_
                          refine lv_iconst (v := 1) hx hb dX2_fact_129 (by decide) ?_
                          refine x_ild X K O (oks_b c_47 (okI_lt c_48)) LC_9 (by decide) (j := 1) rfl dX2_fact_130 ?_
                          exact x_iret X O rfl _ (Option.some.inj hf).symm rfl dX2_fact_131
                        · replace hf := if_f c_45 hf
                          by_cases c_49 : p1 = 12
                          · replace hf := if_t c_49 hf
                            have h9 : (Int32.toInt p1) = 12 := by rw [c_49]; rfl
                            refine lv_tableIn (tgt := 132) hx hb dX2_fact_14 (by rw [h9]; decide) (by rw [h9]; decide) (by rw [h9]; rfl) (by decide) ?_
                            exact absurd hf (fun q => by cases q)
                          · replace hf := if_f c_49 hf
                            by_cases c_50 : p1 = 13
                            · replace hf := if_t c_50 hf
                              have h9 : (Int32.toInt p1) = 13 := by rw [c_50]; rfl
                              refine lv_tableIn (tgt := 156) hx hb dX2_fact_14 (by rw [h9]; decide) (by rw [h9]; decide) (by rw [h9]; rfl) (by decide) ?_
                              exact absurd hf (fun q => by cases q)
                            · replace hf := if_f c_50 hf
                              by_cases c_51 : p1 = 14
                              · replace hf := if_t c_51 hf
                                have h9 : (Int32.toInt p1) = 14 := by rw [c_51]; rfl
                                refine lv_tableIn (tgt := 180) hx hb dX2_fact_14 (by rw [h9]; decide) (by rw [h9]; decide) (by rw [h9]; rfl) (by decide) ?_
                                refine lv_aload_n hx hb dX2_fact_180 rfl (lv_at hl 0 rfl) ?_
                                refine x_gFN X K O 0 (oks_b c_2 (okI_lt c_3)) LC_8 rfl rfl in_X3 (by decide) q276 dX2_fact_181 ?_
                                refine lv_bipush (v := 7) hx hb dX2_fact_184 (by decide) ?_
                                refine x_ild X K O (oks_b c_2 (okI_lt c_3)) LC_9 (by decide) (j := 7) rfl dX2_fact_186 ?_
                                exact x_iret X O rfl _ (Option.some.inj hf).symm rfl dX2_fact_187
                              · replace hf := if_f c_51 hf
                                refine lv_tableOut (tgt := 188) hx hb dX2_fact_14 (by have h8 := fun k (q : (Int32.toInt p1) = Int32.toInt k) => Int32.toInt_inj.mp q; have q0 : ¬ (Int32.toInt p1) = 0 := fun q => c_4 (h8 0 q); have q1 : ¬ (Int32.toInt p1) = 1 := fun q => c_7 (h8 1 q); have q2 : ¬ (Int32.toInt p1) = 2 := fun q => c_10 (h8 2 q); have q3 : ¬ (Int32.toInt p1) = 3 := fun q => c_13 (h8 3 q); have q4 : ¬ (Int32.toInt p1) = 4 := fun q => c_16 (h8 4 q); have q5 : ¬ (Int32.toInt p1) = 5 := fun q => c_17 (h8 5 q); have q6 : ¬ (Int32.toInt p1) = 6 := fun q => c_18 (h8 6 q); have q7 : ¬ (Int32.toInt p1) = 7 := fun q => c_21 (h8 7 q); have q8 : ¬ (Int32.toInt p1) = 8 := fun q => c_27 (h8 8 q); have q9 : ¬ (Int32.toInt p1) = 9 := fun q => c_33 (h8 9 q); have q10 : ¬ (Int32.toInt p1) = 10 := fun q => c_39 (h8 10 q); have q11 : ¬ (Int32.toInt p1) = 11 := fun q => c_45 (h8 11 q); have q12 : ¬ (Int32.toInt p1) = 12 := fun q => c_49 (h8 12 q); have q13 : ¬ (Int32.toInt p1) = 13 := fun q => c_50 (h8 13 q); have q14 : ¬ (Int32.toInt p1) = 14 := fun q => c_51 (h8 14 q); omega) (by decide) ?_
                                refine lv_aload_n hx hb dX2_fact_188 rfl (lv_at hl 1 rfl) ?_
                                obtain ⟨c_52, hf⟩ := ck_s hf
                                obtain ⟨c_53, hf⟩ := ck_s hf
                                refine x_gQ X K O 0 (of_decide_eq_true c_52) hk LC_2 rfl rfl in_X2 (by decide) q253 dX2_fact_189 ?_
                                refine x_gFN X K O 0 c_53 LC_1 rfl rfl in_X1 (by decide) q294 dX2_fact_192 ?_
                                refine lv_aload_n hx hb dX2_fact_195 rfl (lv_at hl 1 rfl) ?_
                                refine x_gI X K O 2 hk LC_2 rfl rfl in_X2 (by decide) q255 dX2_fact_196 ?_
                                obtain ⟨c_54, hf⟩ := ck_s hf
                                refine x_ald X K O 3 c_53 LC_5 (by decide) rfl rfl c_54 (j := (Int32.toNatClampNeg (gI σ 2 v w 2))) rfl dX2_fact_199 ?_
                                refine lv_iload_n hx hb dX2_fact_200 rfl (lv_at hl 2 rfl) ?_
                                refine lv_bipush (v := 7) hx hb dX2_fact_201 (by decide) ?_
                                refine lv_isub hx hb dX2_fact_203 ?_
                                obtain ⟨σ_55, r_56, hg, hf⟩ := bn2_s hf
                                refine x_calli (x_runV (As := [.int (p1 - 7)]) (rest := []) X K O (xct_obj (oks_b c_53 (okI_lt c_54)) LC_8) rfl (m_C_X3_notch (oks_b c_53 (okI_lt c_54)) hg) EN_b EN_h (lw_V q850 q851 q852 q121 q853) 1 rfl hl.1 (Nat.le_of_ble_eq_true rfl) hdV_X3_notch ⟨by decide, by decide⟩ ⟨Nat.le_refl _, Nat.le_refl _⟩ dX2_fact_204) (fun r u H locs hp O _ => ?_)
                                cases hp
                                have O : XH D A s.heap (hC hs) (xct (LC Δ) (okC Δ) (hC hs) d σ_55) H locs := O
                                exact x_iret X O rfl _ (Option.some.inj hf).symm rfl dX2_fact_207
theorem hdV_J2_get : yJ2_get.cls = RJ2 ∧ (yJ2_get.cls ≠ "java/lang/invoke/MethodHandle" ∧ yJ2_get.cls ≠ "java/lang/invoke/VarHandle" ∧ (parseMethodDescriptor yJ2_get.desc).map (fun d => d.parameters.length) = some 1) := by decide +kernel
theorem hdV_J2_size : yJ2_size.cls = RJ2 ∧ (yJ2_size.cls ≠ "java/lang/invoke/MethodHandle" ∧ yJ2_size.cls ≠ "java/lang/invoke/VarHandle" ∧ (parseMethodDescriptor yJ2_size.desc).map (fun d => d.parameters.length) = some 0) := by decide +kernel
theorem hdV_X2_of : yX2_of.cls = RX2 ∧ (yX2_of.cls ≠ "java/lang/invoke/MethodHandle" ∧ yX2_of.cls ≠ "java/lang/invoke/VarHandle" ∧ (parseMethodDescriptor yX2_of.desc).map (fun d => d.parameters.length) = some 4) := by decide +kernel
def C_X1_isLawful_b36 (Δ : DT) (v : Nat) : Nat → ST → Nat → Int32 → Option (ST × Int32)
  | 0, _, _, _ => none
  | n + 1, σ, x3a, x4 =>
    bn2 (C_J2_size Δ x3a σ) (fun σ_1 r_2 => (if r_2 ≤ x4 then some (σ_1, 0) else bn2 (C_J2_get Δ x3a σ_1 x4) (fun σ_4 r_5 => ck ((okC Δ) 22 r_5 0) (ck (decide (¬ gR σ_4 22 r_5 0 1 = 0)) (ck ((okC Δ) 23 (gR σ_4 22 r_5 0 1 - 1) 0) (bn2 (ev Δ (C_X2_factL Δ v 0) v 0 TF σ_4 (gR σ_4 22 r_5 0 1 - 1)) (fun σ_9 r_10 => (if r_10 = 1 then some (σ_9, 1) else lt1 (x4 + 1) (fun x4_12 => (C_X1_isLawful_b36 Δ v n) σ_9 x3a x4_12)))))))))
theorem w_C_X1_isLawful_b36 {Δ : DT} {v : Nat} (X : FX p m c meth s args RX1 cX1_isLawful 5 (some .boolean)) (K : XK D d A s) {z : ST × Int32} (hk : okC Δ 1 v 0 = true) : ∀ (n : Nat) (σ : ST) (x3a : Nat) (x4 : Int32) (kx3 : (okC Δ) 20 x3a 0 = true) (ls : Array Slot) (H : Heap) (locs : List Loc), XH D A s.heap (hC hs) (xct (LC Δ) (okC Δ) (hC hs) d σ) H locs → lv_has ls 5 [(0, .ref ((hC hs) 1 v 0)), (3, .ref ((hC hs) 20 x3a 0)), (4, .int x4)] → C_X1_isLawful_b36 Δ v n σ x3a x4 = some z → W p l e (rmD 422 0 0) s m args below meth c H locs 0 0 (MQ below (Qi D (pz z) (cw (hC hs) (LC Δ) (okC Δ) d) A) args s 0 0 A) (F0 m 36 ls []) := by
  have hx := X.1.1; have hb := X.1.2.1
  intro n
  induction n with
  | zero =>
    intro σ x3a x4 kx3 ls H locs O hl hf
    exact absurd hf (fun q => by cases q)
  | succ n ih =>
    intro σ x3a x4 kx3 ls H locs O hl hf
    rw [C_X1_isLawful_b36] at hf
    refine lv_iload hx hb dX1_isLawful_36 (lv_at hl 2 rfl) ?_
    refine lv_aload_n hx hb dX1_isLawful_38 rfl (lv_at hl 1 rfl) ?_
    obtain ⟨σ_1, r_2, hg, hf⟩ := bn2_s hf
    refine x_calli (x_runV (As := []) (rest := [.int x4]) X K O (xct_obj kx3 LC_20) rfl (m_C_J2_size kx3 hg) EN_b EN_h (lw_V q832 q658 q659 q114 q660) 0 rfl hl.1 (Nat.le_of_ble_eq_true rfl) hdV_J2_size ⟨by decide, by decide⟩ ⟨Nat.le_refl _, Nat.le_refl _⟩ dX1_isLawful_39) (fun r u H locs hp O _ => ?_)
    cases hp
    have O : XH D A s.heap (hC hs) (xct (LC Δ) (okC Δ) (hC hs) d σ_1) H locs := O
    refine lv_icmp_ge (tgt := 76) hx hb dX1_isLawful_42 (by decide) (fun c_3 => ?_) (fun c_3 => ?_)
    · replace hf := if_t c_3 hf
      refine lv_iconst (v := 0) hx hb dX1_isLawful_76 (by decide) ?_
      exact x_zret X O rfl rfl _ (Option.some.inj hf).symm rfl dX1_isLawful_77
    · replace hf := if_f c_3 hf
      refine lv_aload_n hx hb dX1_isLawful_45 rfl (lv_at hl 1 rfl) ?_
      refine lv_iload hx hb dX1_isLawful_46 (lv_at hl 2 rfl) ?_
      obtain ⟨σ_4, r_5, hg, hf⟩ := bn2_s hf
      refine x_callr (x_runV (As := [.int x4]) (rest := []) X K O (xct_obj kx3 LC_20) rfl (m_C_J2_get kx3 hg) EN_b EN_h (lw_V q823 q824 q825 q114 q826) 1 rfl hl.1 (Nat.le_of_ble_eq_true rfl) hdV_J2_get ⟨by decide, by decide⟩ ⟨Nat.le_refl _, Nat.le_refl _⟩ dX1_isLawful_48) (fun r u H locs hp O _ => ?_)
      cases hp
      have O : XH D A s.heap (hC hs) (xct (LC Δ) (okC Δ) (hC hs) d σ_4) H locs := O
      obtain ⟨c_6, hf⟩ := ck_s hf
      refine x_top (w := .ref ((hC hs) 22 r_5 0)) rfl ?_
      refine x_cast X K O (xct_obj c_6 LC_22) rfl q833 dX1_isLawful_51 ?_
      obtain ⟨c_7, hf⟩ := ck_s hf
      obtain ⟨c_8, hf⟩ := ck_s hf
      refine x_gQN X K O 1 (of_decide_eq_true c_7) c_6 LC_22 rfl rfl in_X14 (by decide) q755 dX1_isLawful_54 ?_
      refine lv_aload_n hx hb dX1_isLawful_57 rfl (lv_at hl 0 rfl) ?_
      refine x_gF X K O 3 hk LC_1 rfl rfl in_X1 (by decide) q301 dX1_isLawful_58 ?_
      obtain ⟨σ_9, r_10, hg, hf⟩ := bn2_s hf
      refine x_term (rest := []) X K O q834 (m_ev (oks_b hk (by decide)) (fun h => m_C_X2_factL (oks_b hk (by decide)) h) TF hg) (by decide) hl.1 (Nat.le_of_ble_eq_true rfl) dX1_isLawful_61 (fun H locs O => ?_)
      have O : XH D A s.heap (hC hs) (xct (LC Δ) (okC Δ) (hC hs) d σ_9) H locs := O
      refine lv_iconst (v := 1) hx hb dX1_isLawful_64 (by decide) ?_
      refine lv_icmp_ne (tgt := 70) hx hb dX1_isLawful_65 (by decide) (fun c_11 => ?_) (fun c_11 => ?_)
      · replace hf := if_f c_11 hf
        obtain ⟨x4_12, ex4_12, hf⟩ := lt1_s hf
        refine lv_iinc (v := x4_12) (lv' := [(4, .int x4_12), (0, .ref ((hC hs) 1 v 0)), (3, .ref ((hC hs) 20 x3a 0))]) hx hb dX1_isLawful_70 hl (k := 2) rfl (by rw [ex4_12]; rfl) (by decide) rfl (fun ls hl => ?_)
        refine lv_goto (tgt := 36) hx hb dX1_isLawful_73 (by decide) ?_
        exact ih _ _ _ kx3 ls _ _ O (lv_sub hl [1, 2, 0] rfl) hf
      · replace hf := if_t c_11 hf
        refine lv_iconst (v := 1) hx hb dX1_isLawful_68 (by decide) ?_
        exact x_zret X O rfl rfl _ (Option.some.inj hf).symm rfl dX1_isLawful_69
def C_X1_isLawful (Δ : DT) (v : Nat) (σ : ST) (p1 : Int32) (p2 : Int32) : Option (ST × Int32) :=
  ck ((okC Δ) 20 (gR σ 0 0 0 2) 0) (bn2 (C_J2_get Δ (gR σ 0 0 0 2) σ (gI σ 4 v 0 9)) (fun σ_2 r_3 => ck ((okC Δ) 20 r_3 0) (bn1 (C_X2_of Δ v 0 v σ_2 p1 p1 p2) (fun σ_5 => C_X1_isLawful_b36 Δ v FUEL σ_5 r_3 0))))
theorem m_C_X1_isLawful {l : Launch} {D : va_G} {d : Nat → ClassId} {hs : IX} {Δ : DT} {v : Nat} {p1 : Int32} {p2 : Int32} {σ : ST} {z : ST × Int32} (hk : okC Δ 1 v 0 = true) (hf : C_X1_isLawful Δ v σ p1 p2 = some z) : XM l D d EN yX1_isLawful cX1_isLawful 5 (some .boolean) 422 0 0 [.ref ((hC hs) 1 v 0), .int p1, .int p2] (hC hs) (xct (LC Δ) (okC Δ) (hC hs) d σ) (Qi D (pz z) (cw (hC hs) (LC Δ) (okC Δ) d)) := by
  refine XM.of (by decide +kernel) (Nat.le_of_ble_eq_true rfl) ?_
  intro p e s m below meth c A ls X _ K _ O hl
  have hl : lv_has ls 5 [(0, .ref ((hC hs) 1 v 0)), (1, .int p1), (2, .int p2)] := hl
  have hx := X.1.1; have hb := X.1.2.1
  rw [C_X1_isLawful] at hf
  refine lv_aload_n hx hb dX1_isLawful_0 rfl (lv_at hl 0 rfl) ?_
  refine x_gF X K O 9 hk LC_1 rfl rfl in_X1 (by decide) q312 dX1_isLawful_1 ?_
  obtain ⟨c_1, hf⟩ := ck_s hf
  refine x_gRN X K O 2 rfl LC_0 rfl rfl in_X0 (by decide) q375 dX1_isLawful_4 ?_
  refine lv_aload_n hx hb dX1_isLawful_7 rfl (lv_at hl 0 rfl) ?_
  refine x_gF X K O 2 hk LC_1 rfl rfl in_X1 (by decide) q298 dX1_isLawful_8 ?_
  refine lv_bipush (v := 9) hx hb dX1_isLawful_11 (by decide) ?_
  refine x_ild X K O hk LC_4 (by decide) (j := 9) rfl dX1_isLawful_13 ?_
  obtain ⟨σ_2, r_3, hg, hf⟩ := bn2_s hf
  refine x_callr (x_runV (As := [.int (gI σ 4 v 0 9)]) (rest := []) X K O (xct_obj c_1 LC_20) rfl (m_C_J2_get c_1 hg) EN_b EN_h (lw_V q823 q824 q825 q114 q826) 1 rfl hl.1 (Nat.le_of_ble_eq_true rfl) hdV_J2_get ⟨by decide, by decide⟩ ⟨Nat.le_refl _, Nat.le_refl _⟩ dX1_isLawful_14) (fun r u H locs hp O _ => ?_)
  cases hp
  have O : XH D A s.heap (hC hs) (xct (LC Δ) (okC Δ) (hC hs) d σ_2) H locs := O
  obtain ⟨c_4, hf⟩ := ck_s hf
  refine x_top (w := .ref ((hC hs) 20 r_3 0)) rfl ?_
  refine x_cast X K O (xct_obj c_4 LC_20) rfl q827 dX1_isLawful_17 ?_
  refine lv_astore_n (lv' := [(3, .ref ((hC hs) 20 r_3 0)), (0, .ref ((hC hs) 1 v 0)), (1, .int p1), (2, .int p2)]) hx hb dX1_isLawful_20 rfl hl (by decide) rfl (fun ls hl => ?_)
  refine lv_aload_n hx hb dX1_isLawful_21 rfl (lv_at hl 1 rfl) ?_
  refine x_gF X K O 3 hk LC_1 rfl rfl in_X1 (by decide) q301 dX1_isLawful_22 ?_
  refine lv_aload_n hx hb dX1_isLawful_25 rfl (lv_at hl 1 rfl) ?_
  refine lv_iload_n hx hb dX1_isLawful_26 rfl (lv_at hl 2 rfl) ?_
  refine lv_iload_n hx hb dX1_isLawful_27 rfl (lv_at hl 2 rfl) ?_
  refine lv_iload_n hx hb dX1_isLawful_28 rfl (lv_at hl 3 rfl) ?_
  obtain ⟨σ_5, hg, hf⟩ := bn1_s hf
  refine x_callr (x_runV (As := [.ref ((hC hs) 1 v 0), .int p1, .int p1, .int p2]) (rest := []) X K O (xct_obj (oks_b hk (by decide)) LC_2) rfl (m_C_X2_of (oks_b hk (by decide)) hk hg) EN_b EN_h (lw_V q828 q829 q830 q120 q831) 4 rfl hl.1 (Nat.le_of_ble_eq_true rfl) hdV_X2_of ⟨by decide, by decide⟩ ⟨Nat.le_refl _, Nat.le_refl _⟩ dX1_isLawful_29) (fun r u H locs hp O _ => ?_)
  obtain ⟨rfl, rfl⟩ := hp
  have O : XH D A s.heap (hC hs) (xct (LC Δ) (okC Δ) (hC hs) d σ_5) H locs := O
  refine lv_pop hx hb dX1_isLawful_32 rfl ?_
  refine lv_iconst (v := 0) hx hb dX1_isLawful_33 (by decide) ?_
  refine lv_istore (lv' := [(4, .int 0), (3, .ref ((hC hs) 20 r_3 0)), (0, .ref ((hC hs) 1 v 0)), (1, .int p1), (2, .int p2)]) hx hb dX1_isLawful_34 hl (by decide) rfl (fun ls hl => ?_)
  exact w_C_X1_isLawful_b36 X K hk _ _ _ _ c_4 ls _ _ O (lv_sub hl [2, 1, 0] rfl) hf
theorem hdV_X1_isLawful : yX1_isLawful.cls = RX1 ∧ (yX1_isLawful.cls ≠ "java/lang/invoke/MethodHandle" ∧ yX1_isLawful.cls ≠ "java/lang/invoke/VarHandle" ∧ (parseMethodDescriptor yX1_isLawful.desc).map (fun d => d.parameters.length) = some 2) := by decide +kernel
def C_X2_fact (Δ : DT) (v : Nat) (w : Nat) (σ : ST) (p1 : Int32) : Option (ST × Int32) :=
  ck (decide (¬ gR σ 2 v w 0 = 0)) (ck ((okC Δ) 1 (gR σ 2 v w 0 - 1) 0) (ck (okI (gI σ 2 v w 1) 12) ((if p1 = 0 then bn2 (C_X3_notch Δ (gR σ 2 v w 0 - 1) (Int32.toNatClampNeg (gI σ 2 v w 1)) σ p1) (fun σ_5 r_6 => some (σ_5, r_6)) else if p1 = 1 then bn2 (C_X3_notch Δ (gR σ 2 v w 0 - 1) (Int32.toNatClampNeg (gI σ 2 v w 1)) σ p1) (fun σ_8 r_9 => some (σ_8, r_9)) else if p1 = 2 then bn2 (C_X3_notch Δ (gR σ 2 v w 0 - 1) (Int32.toNatClampNeg (gI σ 2 v w 1)) σ p1) (fun σ_11 r_12 => some (σ_11, r_12)) else if p1 = 3 then bn2 (C_X3_notch Δ (gR σ 2 v w 0 - 1) (Int32.toNatClampNeg (gI σ 2 v w 1)) σ p1) (fun σ_14 r_15 => some (σ_14, r_15)) else if p1 = 4 then some (σ, (gI σ 2 v w 3)) else if p1 = 5 then some (σ, (gI σ 9 (gR σ 2 v w 0 - 1) (Int32.toNatClampNeg (gI σ 2 v w 1)) 1)) else if p1 = 6 then ck (decide (¬ gR σ 2 v w 0 = 0)) (ck ((okC Δ) 1 (gR σ 2 v w 0 - 1) 0) (some (σ, (gI σ 1 (gR σ 2 v w 0 - 1) 0 7)))) else if p1 = 7 then ck (decide (¬ gR σ 2 v w 0 = 0)) (ck ((okC Δ) 1 (gR σ 2 v w 0 - 1) 0) (ck (okI (gI σ 2 v w 2) 12) (bn2 (C_X3_notch Δ (gR σ 2 v w 0 - 1) (Int32.toNatClampNeg (gI σ 2 v w 2)) σ (p1 - 7)) (fun σ_25 r_26 => some (σ_25, r_26))))) else if p1 = 8 then ck (decide (¬ gR σ 2 v w 0 = 0)) (ck ((okC Δ) 1 (gR σ 2 v w 0 - 1) 0) (ck (okI (gI σ 2 v w 2) 12) (bn2 (C_X3_notch Δ (gR σ 2 v w 0 - 1) (Int32.toNatClampNeg (gI σ 2 v w 2)) σ (p1 - 7)) (fun σ_31 r_32 => some (σ_31, r_32))))) else if p1 = 9 then ck (decide (¬ gR σ 2 v w 0 = 0)) (ck ((okC Δ) 1 (gR σ 2 v w 0 - 1) 0) (ck (okI (gI σ 2 v w 2) 12) (bn2 (C_X3_notch Δ (gR σ 2 v w 0 - 1) (Int32.toNatClampNeg (gI σ 2 v w 2)) σ (p1 - 7)) (fun σ_37 r_38 => some (σ_37, r_38))))) else if p1 = 10 then ck (decide (¬ gR σ 2 v w 0 = 0)) (ck ((okC Δ) 1 (gR σ 2 v w 0 - 1) 0) (ck (okI (gI σ 2 v w 2) 12) (bn2 (C_X3_notch Δ (gR σ 2 v w 0 - 1) (Int32.toNatClampNeg (gI σ 2 v w 2)) σ (p1 - 7)) (fun σ_43 r_44 => some (σ_43, r_44))))) else if p1 = 11 then ck (decide (¬ gR σ 2 v w 0 = 0)) (ck ((okC Δ) 1 (gR σ 2 v w 0 - 1) 0) (ck (okI (gI σ 2 v w 2) 12) (some (σ, (gI σ 9 (gR σ 2 v w 0 - 1) (Int32.toNatClampNeg (gI σ 2 v w 2)) 1))))) else if p1 = 12 then ck (decide (¬ gR σ 2 v w 0 = 0)) (ck ((okC Δ) 1 (gR σ 2 v w 0 - 1) 0) (bn2 (C_X1_isLawful Δ (gR σ 2 v w 0 - 1) σ (gI σ 2 v w 1) (gI σ 2 v w 3)) (fun σ_52 r_53 => (if r_53 = 0 then some (σ_52, 0) else some (σ_52, 1))))) else if p1 = 13 then ck (decide (¬ gR σ 2 v w 0 = 0)) (ck ((okC Δ) 1 (gR σ 2 v w 0 - 1) 0) (bn2 (C_X1_isLawful Δ (gR σ 2 v w 0 - 1) σ (gI σ 2 v w 2) (gI σ 2 v w 3)) (fun σ_58 r_59 => (if r_59 = 0 then some (σ_58, 0) else some (σ_58, 1))))) else if p1 = 14 then some (σ, (gI σ 9 (gR σ 2 v w 0 - 1) (Int32.toNatClampNeg (gI σ 2 v w 1)) 7)) else ck (decide (¬ gR σ 2 v w 0 = 0)) (ck ((okC Δ) 1 (gR σ 2 v w 0 - 1) 0) (ck (okI (gI σ 2 v w 2) 12) (bn2 (C_X3_notch Δ (gR σ 2 v w 0 - 1) (Int32.toNatClampNeg (gI σ 2 v w 2)) σ (p1 - 7)) (fun σ_65 r_66 => some (σ_65, r_66)))))))))
theorem m_C_X2_fact {l : Launch} {D : va_G} {d : Nat → ClassId} {hs : IX} {Δ : DT} {v : Nat} {w : Nat} {p1 : Int32} {σ : ST} {z : ST × Int32} (hk : okC Δ 2 v w = true) (hf : C_X2_fact Δ v w σ p1 = some z) : XM l D d EN yX2_fact cX2_fact 3 (some .int) 423 0 0 [.ref ((hC hs) 2 v w), .int p1] (hC hs) (xct (LC Δ) (okC Δ) (hC hs) d σ) (Qi D (pz z) (cw (hC hs) (LC Δ) (okC Δ) d)) := by
  refine XM.of (by decide +kernel) (Nat.le_of_ble_eq_true rfl) ?_
  intro p e s m below meth c A ls X _ K _ O hl
  have hl : lv_has ls 3 [(0, .ref ((hC hs) 2 v w)), (1, .int p1)] := hl
  have hx := X.1.1; have hb := X.1.2.1
  rw [C_X2_fact] at hf
  refine lv_aload_n hx hb dX2_fact_0 rfl (lv_at hl 0 rfl) ?_
  obtain ⟨c_1, hf⟩ := ck_s hf
  obtain ⟨c_2, hf⟩ := ck_s hf
  refine x_gQ X K O 0 (of_decide_eq_true c_1) hk LC_2 rfl rfl in_X2 (by decide) q253 dX2_fact_1 ?_
  refine x_gFN X K O 0 c_2 LC_1 rfl rfl in_X1 (by decide) q294 dX2_fact_4 ?_
  refine lv_aload_n hx hb dX2_fact_7 rfl (lv_at hl 0 rfl) ?_
  refine x_gI X K O 1 hk LC_2 rfl rfl in_X2 (by decide) q254 dX2_fact_8 ?_
  obtain ⟨c_3, hf⟩ := ck_s hf
  refine x_ald X K O 3 c_2 LC_5 (by decide) rfl rfl c_3 (j := (Int32.toNatClampNeg (gI σ 2 v w 1))) rfl dX2_fact_11 ?_
  refine lv_astore_n (lv' := [(2, .ref ((hC hs) 8 (gR σ 2 v w 0 - 1) (Int32.toNatClampNeg (gI σ 2 v w 1)))), (0, .ref ((hC hs) 2 v w)), (1, .int p1)]) hx hb dX2_fact_12 rfl hl (by decide) rfl (fun ls hl => ?_)
  refine lv_iload_n hx hb dX2_fact_13 rfl (lv_at hl 2 rfl) ?_
  by_cases c_4 : p1 = 0
  · replace hf := if_t c_4 hf
    have h9 : (Int32.toInt p1) = 0 := by rw [c_4]; rfl
    refine lv_tableIn (tgt := 88) hx hb dX2_fact_14 (by rw [h9]; decide) (by rw [h9]; decide) (by rw [h9]; rfl) (by decide) ?_
    refine lv_aload_n hx hb dX2_fact_88 rfl (lv_at hl 0 rfl) ?_
    refine lv_iload_n hx hb dX2_fact_89 rfl (lv_at hl 2 rfl) ?_
    obtain ⟨σ_5, r_6, hg, hf⟩ := bn2_s hf
    refine x_calli (x_runV (As := [.int p1]) (rest := []) X K O (xct_obj (oks_b c_2 (okI_lt c_3)) LC_8) rfl (m_C_X3_notch (oks_b c_2 (okI_lt c_3)) hg) EN_b EN_h (lw_V q850 q851 q852 q121 q853) 1 rfl hl.1 (Nat.le_of_ble_eq_true rfl) hdV_X3_notch ⟨by decide, by decide⟩ ⟨Nat.le_refl _, Nat.le_refl _⟩ dX2_fact_90) (fun r u H locs hp O _ => ?_)
    cases hp
    have O : XH D A s.heap (hC hs) (xct (LC Δ) (okC Δ) (hC hs) d σ_5) H locs := O
    exact x_iret X O rfl _ (Option.some.inj hf).symm rfl dX2_fact_93
  · replace hf := if_f c_4 hf
    by_cases c_7 : p1 = 1
    · replace hf := if_t c_7 hf
      have h9 : (Int32.toInt p1) = 1 := by rw [c_7]; rfl
      refine lv_tableIn (tgt := 88) hx hb dX2_fact_14 (by rw [h9]; decide) (by rw [h9]; decide) (by rw [h9]; rfl) (by decide) ?_
      refine lv_aload_n hx hb dX2_fact_88 rfl (lv_at hl 0 rfl) ?_
      refine lv_iload_n hx hb dX2_fact_89 rfl (lv_at hl 2 rfl) ?_
      obtain ⟨σ_8, r_9, hg, hf⟩ := bn2_s hf
      refine x_calli (x_runV (As := [.int p1]) (rest := []) X K O (xct_obj (oks_b c_2 (okI_lt c_3)) LC_8) rfl (m_C_X3_notch (oks_b c_2 (okI_lt c_3)) hg) EN_b EN_h (lw_V q850 q851 q852 q121 q853) 1 rfl hl.1 (Nat.le_of_ble_eq_true rfl) hdV_X3_notch ⟨by decide, by decide⟩ ⟨Nat.le_refl _, Nat.le_refl _⟩ dX2_fact_90) (fun r u H locs hp O _ => ?_)
      cases hp
      have O : XH D A s.heap (hC hs) (xct (LC Δ) (okC Δ) (hC hs) d σ_8) H locs := O
      exact x_iret X O rfl _ (Option.some.inj hf).symm rfl dX2_fact_93
    · replace hf := if_f c_7 hf
      by_cases c_10 : p1 = 2
      · replace hf := if_t c_10 hf
        have h9 : (Int32.toInt p1) = 2 := by rw [c_10]; rfl
        refine lv_tableIn (tgt := 88) hx hb dX2_fact_14 (by rw [h9]; decide) (by rw [h9]; decide) (by rw [h9]; rfl) (by decide) ?_
        refine lv_aload_n hx hb dX2_fact_88 rfl (lv_at hl 0 rfl) ?_
        refine lv_iload_n hx hb dX2_fact_89 rfl (lv_at hl 2 rfl) ?_
        obtain ⟨σ_11, r_12, hg, hf⟩ := bn2_s hf
        refine x_calli (x_runV (As := [.int p1]) (rest := []) X K O (xct_obj (oks_b c_2 (okI_lt c_3)) LC_8) rfl (m_C_X3_notch (oks_b c_2 (okI_lt c_3)) hg) EN_b EN_h (lw_V q850 q851 q852 q121 q853) 1 rfl hl.1 (Nat.le_of_ble_eq_true rfl) hdV_X3_notch ⟨by decide, by decide⟩ ⟨Nat.le_refl _, Nat.le_refl _⟩ dX2_fact_90) (fun r u H locs hp O _ => ?_)
        cases hp
        have O : XH D A s.heap (hC hs) (xct (LC Δ) (okC Δ) (hC hs) d σ_11) H locs := O
        exact x_iret X O rfl _ (Option.some.inj hf).symm rfl dX2_fact_93
      · replace hf := if_f c_10 hf
        by_cases c_13 : p1 = 3
        · replace hf := if_t c_13 hf
          have h9 : (Int32.toInt p1) = 3 := by rw [c_13]; rfl
          refine lv_tableIn (tgt := 88) hx hb dX2_fact_14 (by rw [h9]; decide) (by rw [h9]; decide) (by rw [h9]; rfl) (by decide) ?_
          refine lv_aload_n hx hb dX2_fact_88 rfl (lv_at hl 0 rfl) ?_
          refine lv_iload_n hx hb dX2_fact_89 rfl (lv_at hl 2 rfl) ?_
          obtain ⟨σ_14, r_15, hg, hf⟩ := bn2_s hf
          refine x_calli (x_runV (As := [.int p1]) (rest := []) X K O (xct_obj (oks_b c_2 (okI_lt c_3)) LC_8) rfl (m_C_X3_notch (oks_b c_2 (okI_lt c_3)) hg) EN_b EN_h (lw_V q850 q851 q852 q121 q853) 1 rfl hl.1 (Nat.le_of_ble_eq_true rfl) hdV_X3_notch ⟨by decide, by decide⟩ ⟨Nat.le_refl _, Nat.le_refl _⟩ dX2_fact_90) (fun r u H locs hp O _ => ?_)
          cases hp
          have O : XH D A s.heap (hC hs) (xct (LC Δ) (okC Δ) (hC hs) d σ_14) H locs := O
          exact x_iret X O rfl _ (Option.some.inj hf).symm rfl dX2_fact_93
        · replace hf := if_f c_13 hf
          by_cases c_16 : p1 = 4
          · replace hf := if_t c_16 hf
            have h9 : (Int32.toInt p1) = 4 := by rw [c_16]; rfl
            refine lv_tableIn (tgt := 94) hx hb dX2_fact_14 (by rw [h9]; decide) (by rw [h9]; decide) (by rw [h9]; rfl) (by decide) ?_
            refine lv_aload_n hx hb dX2_fact_94 rfl (lv_at hl 1 rfl) ?_
            refine x_gI X K O 3 hk LC_2 rfl rfl in_X2 (by decide) q256 dX2_fact_95 ?_
            exact x_iret X O rfl _ (Option.some.inj hf).symm rfl dX2_fact_98
          · replace hf := if_f c_16 hf
            by_cases c_17 : p1 = 5
            · replace hf := if_t c_17 hf
              have h9 : (Int32.toInt p1) = 5 := by rw [c_17]; rfl
              refine lv_tableIn (tgt := 99) hx hb dX2_fact_14 (by rw [h9]; decide) (by rw [h9]; decide) (by rw [h9]; rfl) (by decide) ?_
              refine lv_aload_n hx hb dX2_fact_99 rfl (lv_at hl 0 rfl) ?_
              refine x_gFN X K O 0 (oks_b c_2 (okI_lt c_3)) LC_8 rfl rfl in_X3 (by decide) q276 dX2_fact_100 ?_
              refine lv_iconst (v := 1) hx hb dX2_fact_103 (by decide) ?_
              refine x_ild X K O (oks_b c_2 (okI_lt c_3)) LC_9 (by decide) (j := 1) rfl dX2_fact_104 ?_
              exact x_iret X O rfl _ (Option.some.inj hf).symm rfl dX2_fact_105
            · replace hf := if_f c_17 hf
              by_cases c_18 : p1 = 6
              · replace hf := if_t c_18 hf
                have h9 : (Int32.toInt p1) = 6 := by rw [c_18]; rfl
                refine lv_tableIn (tgt := 106) hx hb dX2_fact_14 (by rw [h9]; decide) (by rw [h9]; decide) (by rw [h9]; rfl) (by decide) ?_
                refine lv_aload_n hx hb dX2_fact_106 rfl (lv_at hl 1 rfl) ?_
                obtain ⟨c_19, hf⟩ := ck_s hf
                obtain ⟨c_20, hf⟩ := ck_s hf
                refine x_gQ X K O 0 (of_decide_eq_true c_19) hk LC_2 rfl rfl in_X2 (by decide) q253 dX2_fact_107 ?_
                refine x_gIN X K O 7 c_20 LC_1 rfl rfl in_X1 (by decide) q308 dX2_fact_110 ?_
                exact x_iret X O rfl _ (Option.some.inj hf).symm rfl dX2_fact_113
              · replace hf := if_f c_18 hf
                by_cases c_21 : p1 = 7
                · replace hf := if_t c_21 hf
                  have h9 : (Int32.toInt p1) = 7 := by rw [c_21]; rfl
                  refine lv_tableIn (tgt := 188) hx hb dX2_fact_14 (by rw [h9]; decide) (by rw [h9]; decide) (by rw [h9]; rfl) (by decide) ?_
                  refine lv_aload_n hx hb dX2_fact_188 rfl (lv_at hl 1 rfl) ?_
                  obtain ⟨c_22, hf⟩ := ck_s hf
                  obtain ⟨c_23, hf⟩ := ck_s hf
                  refine x_gQ X K O 0 (of_decide_eq_true c_22) hk LC_2 rfl rfl in_X2 (by decide) q253 dX2_fact_189 ?_
                  refine x_gFN X K O 0 c_23 LC_1 rfl rfl in_X1 (by decide) q294 dX2_fact_192 ?_
                  refine lv_aload_n hx hb dX2_fact_195 rfl (lv_at hl 1 rfl) ?_
                  refine x_gI X K O 2 hk LC_2 rfl rfl in_X2 (by decide) q255 dX2_fact_196 ?_
                  obtain ⟨c_24, hf⟩ := ck_s hf
                  refine x_ald X K O 3 c_23 LC_5 (by decide) rfl rfl c_24 (j := (Int32.toNatClampNeg (gI σ 2 v w 2))) rfl dX2_fact_199 ?_
                  refine lv_iload_n hx hb dX2_fact_200 rfl (lv_at hl 2 rfl) ?_
                  refine lv_bipush (v := 7) hx hb dX2_fact_201 (by decide) ?_
                  refine lv_isub hx hb dX2_fact_203 ?_
                  obtain ⟨σ_25, r_26, hg, hf⟩ := bn2_s hf
                  refine x_calli (x_runV (As := [.int (p1 - 7)]) (rest := []) X K O (xct_obj (oks_b c_23 (okI_lt c_24)) LC_8) rfl (m_C_X3_notch (oks_b c_23 (okI_lt c_24)) hg) EN_b EN_h (lw_V q850 q851 q852 q121 q853) 1 rfl hl.1 (Nat.le_of_ble_eq_true rfl) hdV_X3_notch ⟨by decide, by decide⟩ ⟨Nat.le_refl _, Nat.le_refl _⟩ dX2_fact_204) (fun r u H locs hp O _ => ?_)
                  cases hp
                  have O : XH D A s.heap (hC hs) (xct (LC Δ) (okC Δ) (hC hs) d σ_25) H locs := O
                  exact x_iret X O rfl _ (Option.some.inj hf).symm rfl dX2_fact_207
                · replace hf := if_f c_21 hf
                  by_cases c_27 : p1 = 8
                  · replace hf := if_t c_27 hf
                    have h9 : (Int32.toInt p1) = 8 := by rw [c_27]; rfl
                    refine lv_tableIn (tgt := 188) hx hb dX2_fact_14 (by rw [h9]; decide) (by rw [h9]; decide) (by rw [h9]; rfl) (by decide) ?_
                    refine lv_aload_n hx hb dX2_fact_188 rfl (lv_at hl 1 rfl) ?_
                    obtain ⟨c_28, hf⟩ := ck_s hf
                    obtain ⟨c_29, hf⟩ := ck_s hf
                    refine x_gQ X K O 0 (of_decide_eq_true c_28) hk LC_2 rfl rfl in_X2 (by decide) q253 dX2_fact_189 ?_
                    refine x_gFN X K O 0 c_29 LC_1 rfl rfl in_X1 (by decide) q294 dX2_fact_192 ?_
                    refine lv_aload_n hx hb dX2_fact_195 rfl (lv_at hl 1 rfl) ?_
                    refine x_gI X K O 2 hk LC_2 rfl rfl in_X2 (by decide) q255 dX2_fact_196 ?_
                    obtain ⟨c_30, hf⟩ := ck_s hf
                    refine x_ald X K O 3 c_29 LC_5 (by decide) rfl rfl c_30 (j := (Int32.toNatClampNeg (gI σ 2 v w 2))) rfl dX2_fact_199 ?_
                    refine lv_iload_n hx hb dX2_fact_200 rfl (lv_at hl 2 rfl) ?_
                    refine lv_bipush (v := 7) hx hb dX2_fact_201 (by decide) ?_
                    refine lv_isub hx hb dX2_fact_203 ?_
                    obtain ⟨σ_31, r_32, hg, hf⟩ := bn2_s hf
                    refine x_calli (x_runV (As := [.int (p1 - 7)]) (rest := []) X K O (xct_obj (oks_b c_29 (okI_lt c_30)) LC_8) rfl (m_C_X3_notch (oks_b c_29 (okI_lt c_30)) hg) EN_b EN_h (lw_V q850 q851 q852 q121 q853) 1 rfl hl.1 (Nat.le_of_ble_eq_true rfl) hdV_X3_notch ⟨by decide, by decide⟩ ⟨Nat.le_refl _, Nat.le_refl _⟩ dX2_fact_204) (fun r u H locs hp O _ => ?_)
                    cases hp
                    have O : XH D A s.heap (hC hs) (xct (LC Δ) (okC Δ) (hC hs) d σ_31) H locs := O
                    exact x_iret X O rfl _ (Option.some.inj hf).symm rfl dX2_fact_207
                  · replace hf := if_f c_27 hf
                    by_cases c_33 : p1 = 9
                    · replace hf := if_t c_33 hf
                      have h9 : (Int32.toInt p1) = 9 := by rw [c_33]; rfl
                      refine lv_tableIn (tgt := 188) hx hb dX2_fact_14 (by rw [h9]; decide) (by rw [h9]; decide) (by rw [h9]; rfl) (by decide) ?_
                      refine lv_aload_n hx hb dX2_fact_188 rfl (lv_at hl 1 rfl) ?_
                      obtain ⟨c_34, hf⟩ := ck_s hf
                      obtain ⟨c_35, hf⟩ := ck_s hf
                      refine x_gQ X K O 0 (of_decide_eq_true c_34) hk LC_2 rfl rfl in_X2 (by decide) q253 dX2_fact_189 ?_
                      refine x_gFN X K O 0 c_35 LC_1 rfl rfl in_X1 (by decide) q294 dX2_fact_192 ?_
                      refine lv_aload_n hx hb dX2_fact_195 rfl (lv_at hl 1 rfl) ?_
                      refine x_gI X K O 2 hk LC_2 rfl rfl in_X2 (by decide) q255 dX2_fact_196 ?_
                      obtain ⟨c_36, hf⟩ := ck_s hf
                      refine x_ald X K O 3 c_35 LC_5 (by decide) rfl rfl c_36 (j := (Int32.toNatClampNeg (gI σ 2 v w 2))) rfl dX2_fact_199 ?_
                      refine lv_iload_n hx hb dX2_fact_200 rfl (lv_at hl 2 rfl) ?_
                      refine lv_bipush (v := 7) hx hb dX2_fact_201 (by decide) ?_
                      refine lv_isub hx hb dX2_fact_203 ?_
                      obtain ⟨σ_37, r_38, hg, hf⟩ := bn2_s hf
                      refine x_calli (x_runV (As := [.int (p1 - 7)]) (rest := []) X K O (xct_obj (oks_b c_35 (okI_lt c_36)) LC_8) rfl (m_C_X3_notch (oks_b c_35 (okI_lt c_36)) hg) EN_b EN_h (lw_V q850 q851 q852 q121 q853) 1 rfl hl.1 (Nat.le_of_ble_eq_true rfl) hdV_X3_notch ⟨by decide, by decide⟩ ⟨Nat.le_refl _, Nat.le_refl _⟩ dX2_fact_204) (fun r u H locs hp O _ => ?_)
                      cases hp
                      have O : XH D A s.heap (hC hs) (xct (LC Δ) (okC Δ) (hC hs) d σ_37) H locs := O
                      exact x_iret X O rfl _ (Option.some.inj hf).symm rfl dX2_fact_207
                    · replace hf := if_f c_33 hf
                      by_cases c_39 : p1 = 10
                      · replace hf := if_t c_39 hf
                        have h9 : (Int32.toInt p1) = 10 := by rw [c_39]; rfl
                        refine lv_tableIn (tgt := 188) hx hb dX2_fact_14 (by rw [h9]; decide) (by rw [h9]; decide) (by rw [h9]; rfl) (by decide) ?_
                        refine lv_aload_n hx hb dX2_fact_188 rfl (lv_at hl 1 rfl) ?_
                        obtain ⟨c_40, hf⟩ := ck_s hf
                        obtain ⟨c_41, hf⟩ := ck_s hf
                        refine x_gQ X K O 0 (of_decide_eq_true c_40) hk LC_2 rfl rfl in_X2 (by decide) q253 dX2_fact_189 ?_
                        refine x_gFN X K O 0 c_41 LC_1 rfl rfl in_X1 (by decide) q294 dX2_fact_192 ?_
                        refine lv_aload_n hx hb dX2_fact_195 rfl (lv_at hl 1 rfl) ?_
                        refine x_gI X K O 2 hk LC_2 rfl rfl in_X2 (by decide) q255 dX2_fact_196 ?_
                        obtain ⟨c_42, hf⟩ := ck_s hf
                        refine x_ald X K O 3 c_41 LC_5 (by decide) rfl rfl c_42 (j := (Int32.toNatClampNeg (gI σ 2 v w 2))) rfl dX2_fact_199 ?_
                        refine lv_iload_n hx hb dX2_fact_200 rfl (lv_at hl 2 rfl) ?_
                        refine lv_bipush (v := 7) hx hb dX2_fact_201 (by decide) ?_
                        refine lv_isub hx hb dX2_fact_203 ?_
                        obtain ⟨σ_43, r_44, hg, hf⟩ := bn2_s hf
                        refine x_calli (x_runV (As := [.int (p1 - 7)]) (rest := []) X K O (xct_obj (oks_b c_41 (okI_lt c_42)) LC_8) rfl (m_C_X3_notch (oks_b c_41 (okI_lt c_42)) hg) EN_b EN_h (lw_V q850 q851 q852 q121 q853) 1 rfl hl.1 (Nat.le_of_ble_eq_true rfl) hdV_X3_notch ⟨by decide, by decide⟩ ⟨Nat.le_refl _, Nat.le_refl _⟩ dX2_fact_204) (fun r u H locs hp O _ => ?_)
                        cases hp
                        have O : XH D A s.heap (hC hs) (xct (LC Δ) (okC Δ) (hC hs) d σ_43) H locs := O
                        exact x_iret X O rfl _ (Option.some.inj hf).symm rfl dX2_fact_207
                      · replace hf := if_f c_39 hf
                        by_cases c_45 : p1 = 11
                        · replace hf := if_t c_45 hf
                          have h9 : (Int32.toInt p1) = 11 := by rw [c_45]; rfl
                          refine lv_tableIn (tgt := 114) hx hb dX2_fact_14 (by rw [h9]; decide) (by rw [h9]; decide) (by rw [h9]; rfl) (by decide) ?_
                          refine lv_aload_n hx hb dX2_fact_114 rfl (lv_at hl 1 rfl) ?_
                          obtain ⟨c_46, hf⟩ := ck_s hf
                          obtain ⟨c_47, hf⟩ := ck_s hf
                          refine x_gQ X K O 0 (of_decide_eq_true c_46) hk LC_2 rfl rfl in_X2 (by decide) q253 dX2_fact_115 ?_
                          refine x_gFN X K O 0 c_47 LC_1 rfl rfl in_X1 (by decide) q294 dX2_fact_118 ?_
                          refine lv_aload_n hx hb dX2_fact_121 rfl (lv_at hl 1 rfl) ?_
                          refine x_gI X K O 2 hk LC_2 rfl rfl in_X2 (by decide) q255 dX2_fact_122 ?_
                          obtain ⟨c_48, hf⟩ := ck_s hf
                          refine x_ald X K O 3 c_47 LC_5 (by decide) rfl rfl c_48 (j := (Int32.toNatClampNeg (gI σ 2 v w 2))) rfl dX2_fact_125 ?_
                          refine x_gFN X K O 0 (oks_b c_47 (okI_lt c_48)) LC_8 rfl rfl in_X3 (by decide) q276 dX2_fact_126 ?_
                          refine lv_iconst (v := 1) hx hb dX2_fact_129 (by decide) ?_
                          refine x_ild X K O (oks_b c_47 (okI_lt c_48)) LC_9 (by decide) (j := 1) rfl dX2_fact_130 ?_
                          exact x_iret X O rfl _ (Option.some.inj hf).symm rfl dX2_fact_131
                        · replace hf := if_f c_45 hf
                          by_cases c_49 : p1 = 12
                          · replace hf := if_t c_49 hf
                            have h9 : (Int32.toInt p1) = 12 := by rw [c_49]; rfl
                            refine lv_tableIn (tgt := 132) hx hb dX2_fact_14 (by rw [h9]; decide) (by rw [h9]; decide) (by rw [h9]; rfl) (by decide) ?_
                            refine lv_aload_n hx hb dX2_fact_132 rfl (lv_at hl 1 rfl) ?_
                            obtain ⟨c_50, hf⟩ := ck_s hf
                            obtain ⟨c_51, hf⟩ := ck_s hf
                            refine x_gQ X K O 0 (of_decide_eq_true c_50) hk LC_2 rfl rfl in_X2 (by decide) q253 dX2_fact_133 ?_
                            refine lv_aload_n hx hb dX2_fact_136 rfl (lv_at hl 1 rfl) ?_
                            refine x_gI X K O 1 hk LC_2 rfl rfl in_X2 (by decide) q254 dX2_fact_137 ?_
                            refine lv_aload_n hx hb dX2_fact_140 rfl (lv_at hl 1 rfl) ?_
                            refine x_gI X K O 3 hk LC_2 rfl rfl in_X2 (by decide) q256 dX2_fact_141 ?_
                            obtain ⟨σ_52, r_53, hg, hf⟩ := bn2_s hf
                            refine x_calli (x_runV (As := [.int (gI σ 2 v w 1), .int (gI σ 2 v w 3)]) (rest := []) X K O (xct_obj c_51 LC_1) rfl (m_C_X1_isLawful c_51 hg) EN_b EN_h (lw_V q854 q855 q856 q119 q857) 2 rfl hl.1 (Nat.le_of_ble_eq_true rfl) hdV_X1_isLawful ⟨by decide, by decide⟩ ⟨Nat.le_refl _, Nat.le_refl _⟩ dX2_fact_144) (fun r u H locs hp O _ => ?_)
                            cases hp
                            have O : XH D A s.heap (hC hs) (xct (LC Δ) (okC Δ) (hC hs) d σ_52) H locs := O
                            refine lv_if_eq (tgt := 154) hx hb dX2_fact_147 (by decide) (fun c_54 => ?_) (fun c_54 => ?_)
                            · replace hf := if_t c_54 hf
                              refine lv_iconst (v := 0) hx hb dX2_fact_154 (by decide) ?_
                              exact x_iret X O rfl _ (Option.some.inj hf).symm rfl dX2_fact_155
                            · replace hf := if_f c_54 hf
                              refine lv_iconst (v := 1) hx hb dX2_fact_150 (by decide) ?_
                              refine lv_goto (tgt := 155) hx hb dX2_fact_151 (by decide) ?_
                              exact x_iret X O rfl _ (Option.some.inj hf).symm rfl dX2_fact_155
                          · replace hf := if_f c_49 hf
                            by_cases c_55 : p1 = 13
                            · replace hf := if_t c_55 hf
                              have h9 : (Int32.toInt p1) = 13 := by rw [c_55]; rfl
                              refine lv_tableIn (tgt := 156) hx hb dX2_fact_14 (by rw [h9]; decide) (by rw [h9]; decide) (by rw [h9]; rfl) (by decide) ?_
                              refine lv_aload_n hx hb dX2_fact_156 rfl (lv_at hl 1 rfl) ?_
                              obtain ⟨c_56, hf⟩ := ck_s hf
                              obtain ⟨c_57, hf⟩ := ck_s hf
                              refine x_gQ X K O 0 (of_decide_eq_true c_56) hk LC_2 rfl rfl in_X2 (by decide) q253 dX2_fact_157 ?_
                              refine lv_aload_n hx hb dX2_fact_160 rfl (lv_at hl 1 rfl) ?_
                              refine x_gI X K O 2 hk LC_2 rfl rfl in_X2 (by decide) q255 dX2_fact_161 ?_
                              refine lv_aload_n hx hb dX2_fact_164 rfl (lv_at hl 1 rfl) ?_
                              refine x_gI X K O 3 hk LC_2 rfl rfl in_X2 (by decide) q256 dX2_fact_165 ?_
                              obtain ⟨σ_58, r_59, hg, hf⟩ := bn2_s hf
                              refine x_calli (x_runV (As := [.int (gI σ 2 v w 2), .int (gI σ 2 v w 3)]) (rest := []) X K O (xct_obj c_57 LC_1) rfl (m_C_X1_isLawful c_57 hg) EN_b EN_h (lw_V q854 q855 q856 q119 q857) 2 rfl hl.1 (Nat.le_of_ble_eq_true rfl) hdV_X1_isLawful ⟨by decide, by decide⟩ ⟨Nat.le_refl _, Nat.le_refl _⟩ dX2_fact_168) (fun r u H locs hp O _ => ?_)
                              cases hp
                              have O : XH D A s.heap (hC hs) (xct (LC Δ) (okC Δ) (hC hs) d σ_58) H locs := O
                              refine lv_if_eq (tgt := 178) hx hb dX2_fact_171 (by decide) (fun c_60 => ?_) (fun c_60 => ?_)
                              · replace hf := if_t c_60 hf
                                refine lv_iconst (v := 0) hx hb dX2_fact_178 (by decide) ?_
                                exact x_iret X O rfl _ (Option.some.inj hf).symm rfl dX2_fact_179
                              · replace hf := if_f c_60 hf
                                refine lv_iconst (v := 1) hx hb dX2_fact_174 (by decide) ?_
                                refine lv_goto (tgt := 179) hx hb dX2_fact_175 (by decide) ?_
                                exact x_iret X O rfl _ (Option.some.inj hf).symm rfl dX2_fact_179
                            · replace hf := if_f c_55 hf
                              by_cases c_61 : p1 = 14
                              · replace hf := if_t c_61 hf
                                have h9 : (Int32.toInt p1) = 14 := by rw [c_61]; rfl
                                refine lv_tableIn (tgt := 180) hx hb dX2_fact_14 (by rw [h9]; decide) (by rw [h9]; decide) (by rw [h9]; rfl) (by decide) ?_
                                refine lv_aload_n hx hb dX2_fact_180 rfl (lv_at hl 0 rfl) ?_
                                refine x_gFN X K O 0 (oks_b c_2 (okI_lt c_3)) LC_8 rfl rfl in_X3 (by decide) q276 dX2_fact_181 ?_
                                refine lv_bipush (v := 7) hx hb dX2_fact_184 (by decide) ?_
                                refine x_ild X K O (oks_b c_2 (okI_lt c_3)) LC_9 (by decide) (j := 7) rfl dX2_fact_186 ?_
                                exact x_iret X O rfl _ (Option.some.inj hf).symm rfl dX2_fact_187
                              · replace hf := if_f c_61 hf
                                refine lv_tableOut (tgt := 188) hx hb dX2_fact_14 (by have h8 := fun k (q : (Int32.toInt p1) = Int32.toInt k) => Int32.toInt_inj.mp q; have q0 : ¬ (Int32.toInt p1) = 0 := fun q => c_4 (h8 0 q); have q1 : ¬ (Int32.toInt p1) = 1 := fun q => c_7 (h8 1 q); have q2 : ¬ (Int32.toInt p1) = 2 := fun q => c_10 (h8 2 q); have q3 : ¬ (Int32.toInt p1) = 3 := fun q => c_13 (h8 3 q); have q4 : ¬ (Int32.toInt p1) = 4 := fun q => c_16 (h8 4 q); have q5 : ¬ (Int32.toInt p1) = 5 := fun q => c_17 (h8 5 q); have q6 : ¬ (Int32.toInt p1) = 6 := fun q => c_18 (h8 6 q); have q7 : ¬ (Int32.toInt p1) = 7 := fun q => c_21 (h8 7 q); have q8 : ¬ (Int32.toInt p1) = 8 := fun q => c_27 (h8 8 q); have q9 : ¬ (Int32.toInt p1) = 9 := fun q => c_33 (h8 9 q); have q10 : ¬ (Int32.toInt p1) = 10 := fun q => c_39 (h8 10 q); have q11 : ¬ (Int32.toInt p1) = 11 := fun q => c_45 (h8 11 q); have q12 : ¬ (Int32.toInt p1) = 12 := fun q => c_49 (h8 12 q); have q13 : ¬ (Int32.toInt p1) = 13 := fun q => c_55 (h8 13 q); have q14 : ¬ (Int32.toInt p1) = 14 := fun q => c_61 (h8 14 q); omega) (by decide) ?_
                                refine lv_aload_n hx hb dX2_fact_188 rfl (lv_at hl 1 rfl) ?_
                                obtain ⟨c_62, hf⟩ := ck_s hf
                                obtain ⟨c_63, hf⟩ := ck_s hf
                                refine x_gQ X K O 0 (of_decide_eq_true c_62) hk LC_2 rfl rfl in_X2 (by decide) q253 dX2_fact_189 ?_
                                refine x_gFN X K O 0 c_63 LC_1 rfl rfl in_X1 (by decide) q294 dX2_fact_192 ?_
                                refine lv_aload_n hx hb dX2_fact_195 rfl (lv_at hl 1 rfl) ?_
                                refine x_gI X K O 2 hk LC_2 rfl rfl in_X2 (by decide) q255 dX2_fact_196 ?_
                                obtain ⟨c_64, hf⟩ := ck_s hf
                                refine x_ald X K O 3 c_63 LC_5 (by decide) rfl rfl c_64 (j := (Int32.toNatClampNeg (gI σ 2 v w 2))) rfl dX2_fact_199 ?_
                                refine lv_iload_n hx hb dX2_fact_200 rfl (lv_at hl 2 rfl) ?_
                                refine lv_bipush (v := 7) hx hb dX2_fact_201 (by decide) ?_
                                refine lv_isub hx hb dX2_fact_203 ?_
                                obtain ⟨σ_65, r_66, hg, hf⟩ := bn2_s hf
                                refine x_calli (x_runV (As := [.int (p1 - 7)]) (rest := []) X K O (xct_obj (oks_b c_63 (okI_lt c_64)) LC_8) rfl (m_C_X3_notch (oks_b c_63 (okI_lt c_64)) hg) EN_b EN_h (lw_V q850 q851 q852 q121 q853) 1 rfl hl.1 (Nat.le_of_ble_eq_true rfl) hdV_X3_notch ⟨by decide, by decide⟩ ⟨Nat.le_refl _, Nat.le_refl _⟩ dX2_fact_204) (fun r u H locs hp O _ => ?_)
                                cases hp
                                have O : XH D A s.heap (hC hs) (xct (LC Δ) (okC Δ) (hC hs) d σ_65) H locs := O
                                exact x_iret X O rfl _ (Option.some.inj hf).symm rfl dX2_fact_207
end CW
