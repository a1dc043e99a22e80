section CW
variable {p : Program} {l : Launch} {e : Env} {s : State} {m : MethodId} {args : Array Value} {below : List Frame} {meth : Method} {c : Code} {D : va_G} {A : Nat → Prop} {hs : IX} {d : Nat → ClassId} {Δ : DT}

def C_X7_see (Δ : DT) (v : Nat) (σ : ST) : Option (ST × Int32) :=
  (if (gI σ 0 0 0 1) ≤ (gI σ 24 v 0 1) then some (σ, (-1)) else ck (okI (gI σ 24 v 0 1) 400) (some (σ, ((gI σ 7 0 0 (Int32.toNatClampNeg (gI σ 24 v 0 1))) &&& 255))))
theorem m_C_X7_see {l : Launch} {D : va_G} {d : Nat → ClassId} {hs : IX} {adK adV : Nat → Nat} {e0 : Nat} {Δ : DT} {v : Nat} {σ : ST} {z : ST × Int32} (hk : okC Δ 24 v 0 = true) (hf : C_X7_see Δ v σ = some z) : XM l D d (ES adK adV e0) yX7_see cX7_see 1 (some .int) 0 0 0 [.ref ((hC hs) 24 v 0)] (hC hs) (xct (LC Δ) (okC Δ) (hC hs) d σ) (Qi D (pz z) (cw (hC hs) (LC Δ) (okC Δ) d)) := by
  refine XM.of (by decide +kernel) (Nat.le_of_ble_eq_true rfl) ?_
  intro p e s m below meth c A ls X _ K hE O hl
  have hl : lv_has ls 1 [(0, .ref ((hC hs) 24 v 0))] := hl
  have hx := X.1.1; have hb := X.1.2.1
  rw [C_X7_see] at hf
  refine lv_aload_n hx hb dX7_see_0 rfl (lv_at hl 0 rfl) ?_
  refine x_gI X K O 1 hk LC_24 rfl rfl in_X7 (by decide) q459 dX7_see_1 ?_
  refine lv_aload_n hx hb dX7_see_4 rfl (lv_at hl 0 rfl) ?_
  refine x_gF X K O 6 hk LC_24 rfl rfl in_X7 (by decide) q464 dX7_see_5 ?_
  refine x_gIN X K O 1 rfl LC_0 rfl rfl in_X0 (by decide) q372 dX7_see_8 ?_
  refine lv_icmp_ge (tgt := 33) hx hb dX7_see_11 (by decide) (fun c_1 => ?_) (fun c_1 => ?_)
  · replace hf := if_t c_1 hf
    refine lv_iconst (v := (-1)) hx hb dX7_see_33 (by decide) ?_
    exact x_iret X O rfl _ (Option.some.inj hf).symm rfl dX7_see_34
  · replace hf := if_f c_1 hf
    refine lv_aload_n hx hb dX7_see_14 rfl (lv_at hl 0 rfl) ?_
    refine x_gF X K O 6 hk LC_24 rfl rfl in_X7 (by decide) q464 dX7_see_15 ?_
    refine x_gFN X K O 0 rfl LC_0 rfl rfl in_X0 (by decide) q371 dX7_see_18 ?_
    refine lv_aload_n hx hb dX7_see_21 rfl (lv_at hl 0 rfl) ?_
    refine x_gI X K O 1 hk LC_24 rfl rfl in_X7 (by decide) q459 dX7_see_22 ?_
    obtain ⟨c_2, hf⟩ := ck_s hf
    refine x_bld X K O rfl LC_7 c_2 (j := (Int32.toNatClampNeg (gI σ 24 v 0 1))) rfl dX7_see_25 ?_
    refine lv_sipush (v := 255) hx hb dX7_see_26 (by decide) ?_
    refine lv_iand hx hb dX7_see_29 ?_
    refine lv_goto (tgt := 34) hx hb dX7_see_30 (by decide) ?_
    exact x_iret X O rfl _ (Option.some.inj hf).symm rfl dX7_see_34
theorem hdV_X7_see : yX7_see.cls = RX7 ∧ (yX7_see.cls ≠ "java/lang/invoke/MethodHandle" ∧ yX7_see.cls ≠ "java/lang/invoke/VarHandle" ∧ (parseMethodDescriptor yX7_see.desc).map (fun d => d.parameters.length) = some 0) := by decide +kernel
def C_X7_isLetter_b28 (Δ : DT) (v : Nat) (σ : ST) : Option (ST × Int32) :=
  some (σ, 1)
theorem w_C_X7_isLetter_b28 {adK adV : Nat → Nat} {e0 : Nat} {Δ : DT} {v : Nat} (X : FX p m c meth s args RX7 cX7_isLetter 1 (some .boolean)) (K : XK D d A s) (hE : (ES adK adV e0) A s) {z : ST × Int32} (hk : okC Δ 24 v 0 = true) (σ : ST) (ls : Array Slot) (H : Heap) (locs : List Loc) (O : XH D A s.heap (hC hs) (xct (LC Δ) (okC Δ) (hC hs) d σ) H locs) (hl : lv_has ls 1 []) (hf : C_X7_isLetter_b28 Δ v σ = some z) : W p l e (rmD 1 0 0) s m args below meth c H locs 0 0 (MQ below (Qi D (pz z) (cw (hC hs) (LC Δ) (okC Δ) d) A) args s 0 0 A) (F0 m 28 ls []) := by
  have hx := X.1.1; have hb := X.1.2.1
  rw [C_X7_isLetter_b28] at hf
  refine lv_iconst (v := 1) hx hb dX7_isLetter_28 (by decide) ?_
  refine lv_goto (tgt := 33) hx hb dX7_isLetter_29 (by decide) ?_
  exact x_zret X O rfl rfl _ (Option.some.inj hf).symm rfl dX7_isLetter_33
def C_X7_isLetter (Δ : DT) (v : Nat) (σ : ST) : Option (ST × Int32) :=
  bn2 (C_X7_see Δ v σ) (fun σ_1 r_2 => bn2 (C_X0_isIn Δ σ_1 r_2 97 122) (fun σ_3 r_4 => (if r_4 = 0 then bn2 (C_X7_see Δ v σ_3) (fun σ_6 r_7 => bn2 (C_X0_isIn Δ σ_6 r_7 65 90) (fun σ_8 r_9 => (if r_9 = 0 then some (σ_8, 0) else C_X7_isLetter_b28 Δ v σ_8))) else C_X7_isLetter_b28 Δ v σ_3)))
theorem m_C_X7_isLetter {l : Launch} {D : va_G} {d : Nat → ClassId} {hs : IX} {adK adV : Nat → Nat} {e0 : Nat} {Δ : DT} {v : Nat} {σ : ST} {z : ST × Int32} (hk : okC Δ 24 v 0 = true) (hf : C_X7_isLetter Δ v σ = some z) : XM l D d (ES adK adV e0) yX7_isLetter cX7_isLetter 1 (some .boolean) 1 0 0 [.ref ((hC hs) 24 v 0)] (hC hs) (xct (LC Δ) (okC Δ) (hC hs) d σ) (Qi D (pz z) (cw (hC hs) (LC Δ) (okC Δ) d)) := by
  refine XM.of (by decide +kernel) (Nat.le_of_ble_eq_true rfl) ?_
  intro p e s m below meth c A ls X _ K hE O hl
  have hl : lv_has ls 1 [(0, .ref ((hC hs) 24 v 0))] := hl
  have hx := X.1.1; have hb := X.1.2.1
  rw [C_X7_isLetter] at hf
  refine lv_aload_n hx hb dX7_isLetter_0 rfl (lv_at hl 0 rfl) ?_
  obtain ⟨σ_1, r_2, hg, hf⟩ := bn2_s hf
  refine x_calli (x_runV (As := []) (rest := []) X K O (xct_obj hk LC_24) rfl (m_C_X7_see hk hg) ES_b (ES_h hE) (lw_V q490 q492 qs5 q125 q493) 0 rfl hl.1 (Nat.le_of_ble_eq_true rfl) hdV_X7_see ⟨by decide, by decide⟩ ⟨Nat.le_refl _, Nat.le_refl _⟩ dX7_isLetter_1) (fun r u H locs hp O _ => ?_)
  cases hp
  have O : XH D A s.heap (hC hs) (xct (LC Δ) (okC Δ) (hC hs) d σ_1) H locs := O
  refine lv_bipush (v := 97) hx hb dX7_isLetter_4 (by decide) ?_
  refine lv_bipush (v := 122) hx hb dX7_isLetter_6 (by decide) ?_
  obtain ⟨σ_3, r_4, hg, hf⟩ := bn2_s hf
  refine x_calli (x_runSN (As := [.int r_2, .int 97, .int 122]) (rest := []) X K O (m_C_X0_isIn hg) EN_b EN_h q498 q445 q111 q446 3 rfl hl.1 (Nat.le_of_ble_eq_true rfl) hdS_X0_isIn ⟨by decide, by decide⟩ ⟨Nat.le_refl _, Nat.le_refl _⟩ dX7_isLetter_8) (fun r u H locs hp O _ => ?_)
  cases hp
  have O : XH D A s.heap (hC hs) (xct (LC Δ) (okC Δ) (hC hs) d σ_3) H locs := O
  refine lv_if_ne (tgt := 28) hx hb dX7_isLetter_11 (by decide) (fun c_5 => ?_) (fun c_5 => ?_)
  · replace hf := if_f c_5 hf
    exact w_C_X7_isLetter_b28 X K hE hk _ ls _ _ O (lv_sub hl [] rfl) hf
  · replace hf := if_t c_5 hf
    refine lv_aload_n hx hb dX7_isLetter_14 rfl (lv_at hl 0 rfl) ?_
    obtain ⟨σ_6, r_7, hg, hf⟩ := bn2_s hf
    refine x_calli (x_runV (As := []) (rest := []) X K O (xct_obj hk LC_24) rfl (m_C_X7_see hk hg) ES_b (ES_h hE) (lw_V q490 q492 qs5 q125 q493) 0 rfl hl.1 (Nat.le_of_ble_eq_true rfl) hdV_X7_see ⟨by decide, by decide⟩ ⟨Nat.le_refl _, Nat.le_refl _⟩ dX7_isLetter_15) (fun r u H locs hp O _ => ?_)
    cases hp
    have O : XH D A s.heap (hC hs) (xct (LC Δ) (okC Δ) (hC hs) d σ_6) H locs := O
    refine lv_bipush (v := 65) hx hb dX7_isLetter_18 (by decide) ?_
    refine lv_bipush (v := 90) hx hb dX7_isLetter_20 (by decide) ?_
    obtain ⟨σ_8, r_9, hg, hf⟩ := bn2_s hf
    refine x_calli (x_runSN (As := [.int r_7, .int 65, .int 90]) (rest := []) X K O (m_C_X0_isIn hg) EN_b EN_h q498 q445 q111 q446 3 rfl hl.1 (Nat.le_of_ble_eq_true rfl) hdS_X0_isIn ⟨by decide, by decide⟩ ⟨Nat.le_refl _, Nat.le_refl _⟩ dX7_isLetter_22) (fun r u H locs hp O _ => ?_)
    cases hp
    have O : XH D A s.heap (hC hs) (xct (LC Δ) (okC Δ) (hC hs) d σ_8) H locs := O
    refine lv_if_eq (tgt := 32) hx hb dX7_isLetter_25 (by decide) (fun c_10 => ?_) (fun c_10 => ?_)
    · replace hf := if_t c_10 hf
      refine lv_iconst (v := 0) hx hb dX7_isLetter_32 (by decide) ?_
      exact x_zret X O rfl rfl _ (Option.some.inj hf).symm rfl dX7_isLetter_33
    · replace hf := if_f c_10 hf
      exact w_C_X7_isLetter_b28 X K hE hk _ ls _ _ O (lv_sub hl [] rfl) hf
def C_X7_isDigit (Δ : DT) (v : Nat) (σ : ST) : Option (ST × Int32) :=
  bn2 (C_X7_see Δ v σ) (fun σ_1 r_2 => bn2 (C_X0_isIn Δ σ_1 r_2 48 57) (fun σ_3 r_4 => ck (okZ r_4) (some (σ_3, r_4))))
theorem m_C_X7_isDigit {l : Launch} {D : va_G} {d : Nat → ClassId} {hs : IX} {adK adV : Nat → Nat} {e0 : Nat} {Δ : DT} {v : Nat} {σ : ST} {z : ST × Int32} (hk : okC Δ 24 v 0 = true) (hf : C_X7_isDigit Δ v σ = some z) : XM l D d (ES adK adV e0) yX7_isDigit cX7_isDigit 1 (some .boolean) 1 0 0 [.ref ((hC hs) 24 v 0)] (hC hs) (xct (LC Δ) (okC Δ) (hC hs) d σ) (Qi D (pz z) (cw (hC hs) (LC Δ) (okC Δ) d)) := by
  refine XM.of (by decide +kernel) (Nat.le_of_ble_eq_true rfl) ?_
  intro p e s m below meth c A ls X _ K hE O hl
  have hl : lv_has ls 1 [(0, .ref ((hC hs) 24 v 0))] := hl
  have hx := X.1.1; have hb := X.1.2.1
  rw [C_X7_isDigit] at hf
  refine lv_aload_n hx hb dX7_isDigit_0 rfl (lv_at hl 0 rfl) ?_
  obtain ⟨σ_1, r_2, hg, hf⟩ := bn2_s hf
  refine x_calli (x_runV (As := []) (rest := []) X K O (xct_obj hk LC_24) rfl (m_C_X7_see hk hg) ES_b (ES_h hE) (lw_V q490 q492 qs5 q125 q493) 0 rfl hl.1 (Nat.le_of_ble_eq_true rfl) hdV_X7_see ⟨by decide, by decide⟩ ⟨Nat.le_refl _, Nat.le_refl _⟩ dX7_isDigit_1) (fun r u H locs hp O _ => ?_)
  cases hp
  have O : XH D A s.heap (hC hs) (xct (LC Δ) (okC Δ) (hC hs) d σ_1) H locs := O
  refine lv_bipush (v := 48) hx hb dX7_isDigit_4 (by decide) ?_
  refine lv_bipush (v := 57) hx hb dX7_isDigit_6 (by decide) ?_
  obtain ⟨σ_3, r_4, hg, hf⟩ := bn2_s hf
  refine x_calli (x_runSN (As := [.int r_2, .int 48, .int 57]) (rest := []) X K O (m_C_X0_isIn hg) EN_b EN_h q498 q445 q111 q446 3 rfl hl.1 (Nat.le_of_ble_eq_true rfl) hdS_X0_isIn ⟨by decide, by decide⟩ ⟨Nat.le_refl _, Nat.le_refl _⟩ dX7_isDigit_8) (fun r u H locs hp O _ => ?_)
  cases hp
  have O : XH D A s.heap (hC hs) (xct (LC Δ) (okC Δ) (hC hs) d σ_3) H locs := O
  obtain ⟨c_5, hf⟩ := ck_s hf
  exact x_zret X O rfl (okZ_n c_5) _ (Option.some.inj hf).symm rfl dX7_isDigit_11
def C_X7_isMark_b60 (Δ : DT) (v : Nat) (σ : ST) : Option (ST × Int32) :=
  some (σ, 1)
theorem w_C_X7_isMark_b60 {adK adV : Nat → Nat} {e0 : Nat} {Δ : DT} {v : Nat} (X : FX p m c meth s args RX7 cX7_isMark 2 (some .boolean)) (K : XK D d A s) (hE : (ES adK adV e0) A s) {z : ST × Int32} (hk : okC Δ 24 v 0 = true) (σ : ST) (ls : Array Slot) (H : Heap) (locs : List Loc) (O : XH D A s.heap (hC hs) (xct (LC Δ) (okC Δ) (hC hs) d σ) H locs) (hl : lv_has ls 2 []) (hf : C_X7_isMark_b60 Δ v σ = some z) : W p l e (rmD 0 0 0) s m args below meth c H locs 0 0 (MQ below (Qi D (pz z) (cw (hC hs) (LC Δ) (okC Δ) d) A) args s 0 0 A) (F0 m 60 ls []) := by
  have hx := X.1.1; have hb := X.1.2.1
  rw [C_X7_isMark_b60] at hf
  refine lv_iconst (v := 1) hx hb dX7_isMark_60 (by decide) ?_
  refine lv_goto (tgt := 65) hx hb dX7_isMark_61 (by decide) ?_
  exact x_zret X O rfl rfl _ (Option.some.inj hf).symm rfl dX7_isMark_65
def C_X7_isMark (Δ : DT) (v : Nat) (σ : ST) (p1 : Int32) : Option (ST × Int32) :=
  (if p1 = 59 then C_X7_isMark_b60 Δ v σ else (if p1 = 43 then C_X7_isMark_b60 Δ v σ else (if p1 = 45 then C_X7_isMark_b60 Δ v σ else (if p1 = 42 then C_X7_isMark_b60 Δ v σ else (if p1 = 47 then C_X7_isMark_b60 Δ v σ else (if p1 = 40 then C_X7_isMark_b60 Δ v σ else (if p1 = 41 then C_X7_isMark_b60 Δ v σ else (if p1 = 60 then C_X7_isMark_b60 Δ v σ else (if p1 = 61 then C_X7_isMark_b60 Δ v σ else (if p1 = 62 then C_X7_isMark_b60 Δ v σ else some (σ, 0)))))))))))
theorem m_C_X7_isMark {l : Launch} {D : va_G} {d : Nat → ClassId} {hs : IX} {adK adV : Nat → Nat} {e0 : Nat} {Δ : DT} {v : Nat} {p1 : Int32} {σ : ST} {z : ST × Int32} (hk : okC Δ 24 v 0 = true) (hf : C_X7_isMark Δ v σ p1 = some z) : XM l D d (ES adK adV e0) yX7_isMark cX7_isMark 2 (some .boolean) 0 0 0 [.ref ((hC hs) 24 v 0), .int p1] (hC hs) (xct (LC Δ) (okC Δ) (hC hs) d σ) (Qi D (pz z) (cw (hC hs) (LC Δ) (okC Δ) d)) := by
  refine XM.of (by decide +kernel) (Nat.le_of_ble_eq_true rfl) ?_
  intro p e s m below meth c A ls X _ K hE O hl
  have hl : lv_has ls 2 [(0, .ref ((hC hs) 24 v 0)), (1, .int p1)] := hl
  have hx := X.1.1; have hb := X.1.2.1
  rw [C_X7_isMark] at hf
  refine lv_iload_n hx hb dX7_isMark_0 rfl (lv_at hl 1 rfl) ?_
  refine lv_bipush (v := 59) hx hb dX7_isMark_1 (by decide) ?_
  refine lv_icmp_eq (tgt := 60) hx hb dX7_isMark_3 (by decide) (fun c_1 => ?_) (fun c_1 => ?_)
  · replace hf := if_t c_1 hf
    exact w_C_X7_isMark_b60 X K hE hk _ ls _ _ O (lv_sub hl [] rfl) hf
  · replace hf := if_f c_1 hf
    refine lv_iload_n hx hb dX7_isMark_6 rfl (lv_at hl 1 rfl) ?_
    refine lv_bipush (v := 43) hx hb dX7_isMark_7 (by decide) ?_
    refine lv_icmp_eq (tgt := 60) hx hb dX7_isMark_9 (by decide) (fun c_2 => ?_) (fun c_2 => ?_)
    · replace hf := if_t c_2 hf
      exact w_C_X7_isMark_b60 X K hE hk _ ls _ _ O (lv_sub hl [] rfl) hf
    · replace hf := if_f c_2 hf
      refine lv_iload_n hx hb dX7_isMark_12 rfl (lv_at hl 1 rfl) ?_
      refine lv_bipush (v := 45) hx hb dX7_isMark_13 (by decide) ?_
      refine lv_icmp_eq (tgt := 60) hx hb dX7_isMark_15 (by decide) (fun c_3 => ?_) (fun c_3 => ?_)
      · replace hf := if_t c_3 hf
        exact w_C_X7_isMark_b60 X K hE hk _ ls _ _ O (lv_sub hl [] rfl) hf
      · replace hf := if_f c_3 hf
        refine lv_iload_n hx hb dX7_isMark_18 rfl (lv_at hl 1 rfl) ?_
        refine lv_bipush (v := 42) hx hb dX7_isMark_19 (by decide) ?_
        refine lv_icmp_eq (tgt := 60) hx hb dX7_isMark_21 (by decide) (fun c_4 => ?_) (fun c_4 => ?_)
        · replace hf := if_t c_4 hf
          exact w_C_X7_isMark_b60 X K hE hk _ ls _ _ O (lv_sub hl [] rfl) hf
        · replace hf := if_f c_4 hf
          refine lv_iload_n hx hb dX7_isMark_24 rfl (lv_at hl 1 rfl) ?_
          refine lv_bipush (v := 47) hx hb dX7_isMark_25 (by decide) ?_
          refine lv_icmp_eq (tgt := 60) hx hb dX7_isMark_27 (by decide) (fun c_5 => ?_) (fun c_5 => ?_)
          · replace hf := if_t c_5 hf
            exact w_C_X7_isMark_b60 X K hE hk _ ls _ _ O (lv_sub hl [] rfl) hf
          · replace hf := if_f c_5 hf
            refine lv_iload_n hx hb dX7_isMark_30 rfl (lv_at hl 1 rfl) ?_
            refine lv_bipush (v := 40) hx hb dX7_isMark_31 (by decide) ?_
            refine lv_icmp_eq (tgt := 60) hx hb dX7_isMark_33 (by decide) (fun c_6 => ?_) (fun c_6 => ?_)
            · replace hf := if_t c_6 hf
              exact w_C_X7_isMark_b60 X K hE hk _ ls _ _ O (lv_sub hl [] rfl) hf
            · replace hf := if_f c_6 hf
              refine lv_iload_n hx hb dX7_isMark_36 rfl (lv_at hl 1 rfl) ?_
              refine lv_bipush (v := 41) hx hb dX7_isMark_37 (by decide) ?_
              refine lv_icmp_eq (tgt := 60) hx hb dX7_isMark_39 (by decide) (fun c_7 => ?_) (fun c_7 => ?_)
              · replace hf := if_t c_7 hf
                exact w_C_X7_isMark_b60 X K hE hk _ ls _ _ O (lv_sub hl [] rfl) hf
              · replace hf := if_f c_7 hf
                refine lv_iload_n hx hb dX7_isMark_42 rfl (lv_at hl 1 rfl) ?_
                refine lv_bipush (v := 60) hx hb dX7_isMark_43 (by decide) ?_
                refine lv_icmp_eq (tgt := 60) hx hb dX7_isMark_45 (by decide) (fun c_8 => ?_) (fun c_8 => ?_)
                · replace hf := if_t c_8 hf
                  exact w_C_X7_isMark_b60 X K hE hk _ ls _ _ O (lv_sub hl [] rfl) hf
                · replace hf := if_f c_8 hf
                  refine lv_iload_n hx hb dX7_isMark_48 rfl (lv_at hl 1 rfl) ?_
                  refine lv_bipush (v := 61) hx hb dX7_isMark_49 (by decide) ?_
                  refine lv_icmp_eq (tgt := 60) hx hb dX7_isMark_51 (by decide) (fun c_9 => ?_) (fun c_9 => ?_)
                  · replace hf := if_t c_9 hf
                    exact w_C_X7_isMark_b60 X K hE hk _ ls _ _ O (lv_sub hl [] rfl) hf
                  · replace hf := if_f c_9 hf
                    refine lv_iload_n hx hb dX7_isMark_54 rfl (lv_at hl 1 rfl) ?_
                    refine lv_bipush (v := 62) hx hb dX7_isMark_55 (by decide) ?_
                    refine lv_icmp_ne (tgt := 64) hx hb dX7_isMark_57 (by decide) (fun c_10 => ?_) (fun c_10 => ?_)
                    · replace hf := if_f c_10 hf
                      refine lv_iconst (v := 0) hx hb dX7_isMark_64 (by decide) ?_
                      exact x_zret X O rfl rfl _ (Option.some.inj hf).symm rfl dX7_isMark_65
                    · replace hf := if_t c_10 hf
                      exact w_C_X7_isMark_b60 X K hE hk _ ls _ _ O (lv_sub hl [] rfl) hf
def C_X7_is_b63 (Δ : DT) (v : Nat) (i1 : Nat) (kb24 : ST → Int32 → Int32 → Option (ST × Int32)) (σ : ST) (x3 : Int32) (s0 : Int32) : Option (ST × Int32) :=
  lt1 (x3 + 1) (fun x3_1 => kb24 σ s0 x3_1)
theorem w_C_X7_is_b63 {adK adV : Nat → Nat} {e0 : Nat} {Δ : DT} {v : Nat} {i1 : Nat} (X : FX p m c meth s args RX7 cX7_is 4 (some .boolean)) (K : XK D d A s) (hE : (ES adK adV e0) A s) {z : ST × Int32} (hk : okC Δ 24 v 0 = true) (hi1 : i1 < 22) {kb24 : ST → Int32 → Int32 → Option (ST × Int32)} (hkb24 : ∀ (σ : ST) (x2 : Int32) (x3 : Int32) (ls : Array Slot) (H : Heap) (locs : List Loc), XH D A s.heap (hC hs) (xct (LC Δ) (okC Δ) (hC hs) d σ) H locs → lv_has ls 4 [(0, .ref ((hC hs) 24 v 0)), (1, .ref (adK i1)), (2, .int x2), (3, .int x3)] → kb24 σ x2 x3 = some z → W p l e (rmD 4 0 0) s m args below meth c H locs 0 0 (MQ below (Qi D (pz z) (cw (hC hs) (LC Δ) (okC Δ) d) A) args s 0 0 A) (F0 m 24 ls [])) (σ : ST) (x3 : Int32) (s0 : Int32) (ls : Array Slot) (H : Heap) (locs : List Loc) (O : XH D A s.heap (hC hs) (xct (LC Δ) (okC Δ) (hC hs) d σ) H locs) (hl : lv_has ls 4 [(0, .ref ((hC hs) 24 v 0)), (1, .ref (adK i1)), (3, .int x3)]) (hf : C_X7_is_b63 Δ v i1 kb24 σ x3 s0 = some z) : W p l e (rmD 4 0 0) s m args below meth c H locs 0 0 (MQ below (Qi D (pz z) (cw (hC hs) (LC Δ) (okC Δ) d) A) args s 0 0 A) (F0 m 63 ls [.int s0]) := by
  have hx := X.1.1; have hb := X.1.2.1
  rw [C_X7_is_b63] at hf
  refine lv_istore_n (lv' := [(2, .int s0), (0, .ref ((hC hs) 24 v 0)), (1, .ref (adK i1)), (3, .int x3)]) hx hb dX7_is_63 rfl hl (by decide) rfl (fun ls hl => ?_)
  obtain ⟨x3_1, ex3_1, hf⟩ := lt1_s hf
  refine lv_iinc (v := x3_1) (lv' := [(3, .int x3_1), (2, .int s0), (0, .ref ((hC hs) 24 v 0)), (1, .ref (adK i1))]) hx hb dX7_is_64 hl (k := 3) rfl (by rw [ex3_1]; rfl) (by decide) rfl (fun ls hl => ?_)
  refine lv_goto (tgt := 24) hx hb dX7_is_67 (by decide) ?_
  exact hkb24 _ _ _ ls _ _ O (lv_sub hl [2, 3, 1, 0] rfl) hf
def C_X7_is_b24 (Δ : DT) (v : Nat) (i1 : Nat) : Nat → ST → Int32 → Int32 → Option (ST × Int32)
  | 0, _, _, _ => none
  | n + 1, σ, x2, x3 =>
    (if (slen i1) ≤ x3 then ck (okZ x2) (some (σ, x2)) else (if x2 = 0 then ck (okZ x2) (some (σ, x2)) else ck (okI ((gI σ 24 v 0 2) + x3) 400) (ck (okI x3 (lenT.getD i1 0)) ((if (gI σ 7 0 0 (Int32.toNatClampNeg ((gI σ 24 v 0 2) + x3))) = (schr i1 (Int32.toNatClampNeg x3)) then C_X7_is_b63 Δ v i1 (C_X7_is_b24 Δ v i1 n) σ x3 1 else C_X7_is_b63 Δ v i1 (C_X7_is_b24 Δ v i1 n) σ x3 0)))))
theorem w_C_X7_is_b24 {adK adV : Nat → Nat} {e0 : Nat} {Δ : DT} {v : Nat} {i1 : Nat} (X : FX p m c meth s args RX7 cX7_is 4 (some .boolean)) (K : XK D d A s) (hE : (ES adK adV e0) A s) {z : ST × Int32} (hk : okC Δ 24 v 0 = true) (hi1 : i1 < 22) : ∀ (n : Nat) (σ : ST) (x2 : Int32) (x3 : Int32) (ls : Array Slot) (H : Heap) (locs : List Loc), XH D A s.heap (hC hs) (xct (LC Δ) (okC Δ) (hC hs) d σ) H locs → lv_has ls 4 [(0, .ref ((hC hs) 24 v 0)), (1, .ref (adK i1)), (2, .int x2), (3, .int x3)] → C_X7_is_b24 Δ v i1 n σ x2 x3 = some z → W p l e (rmD 4 0 0) s m args below meth c H locs 0 0 (MQ below (Qi D (pz z) (cw (hC hs) (LC Δ) (okC Δ) d) A) args s 0 0 A) (F0 m 24 ls []) := by
  have hx := X.1.1; have hb := X.1.2.1
  intro n
  induction n with
  | zero =>
    intro σ x2 x3 ls H locs O hl hf
    exact absurd hf (fun q => by cases q)
  | succ n ih =>
    intro σ x2 x3 ls H locs O hl hf
    rw [C_X7_is_b24] at hf
    refine lv_iload_n hx hb dX7_is_24 rfl (lv_at hl 3 rfl) ?_
    refine lv_aload_n hx hb dX7_is_25 rfl (lv_at hl 1 rfl) ?_
    refine x_calli (x_runVE (As := []) (rest := [.int x3]) X K O (vk_recv hE.1 hi1 O.S) (m_length hi1) ES_b (ES_h hE) (lw_V q512 q513 q514 q126 q515) 0 rfl hl.1 (Nat.le_of_ble_eq_true rfl) hdV_J6_length ⟨by decide, by decide⟩ ⟨Nat.le_refl _, Nat.le_refl _⟩ dX7_is_26) (fun r u H locs hp O _ => ?_)
    subst hp
    have O : XH D A s.heap (hC hs) (xct (LC Δ) (okC Δ) (hC hs) d σ) H locs := O
    refine lv_icmp_ge (tgt := 70) hx hb dX7_is_29 (by decide) (fun c_2 => ?_) (fun c_2 => ?_)
    · replace hf := if_t c_2 hf
      refine lv_iload_n hx hb dX7_is_70 rfl (lv_at hl 2 rfl) ?_
      obtain ⟨c_3, hf⟩ := ck_s hf
      exact x_zret X O rfl (okZ_n c_3) _ (Option.some.inj hf).symm rfl dX7_is_71
    · replace hf := if_f c_2 hf
      refine lv_iload_n hx hb dX7_is_32 rfl (lv_at hl 2 rfl) ?_
      refine lv_if_eq (tgt := 70) hx hb dX7_is_33 (by decide) (fun c_4 => ?_) (fun c_4 => ?_)
      · replace hf := if_t c_4 hf
        refine lv_iload_n hx hb dX7_is_70 rfl (lv_at hl 2 rfl) ?_
        obtain ⟨c_5, hf⟩ := ck_s hf
        exact x_zret X O rfl (okZ_n c_5) _ (Option.some.inj hf).symm rfl dX7_is_71
      · replace hf := if_f c_4 hf
        refine lv_aload_n hx hb dX7_is_36 rfl (lv_at hl 0 rfl) ?_
        refine x_gF X K O 6 hk LC_24 rfl rfl in_X7 (by decide) q464 dX7_is_37 ?_
        refine x_gFN X K O 0 rfl LC_0 rfl rfl in_X0 (by decide) q371 dX7_is_40 ?_
        refine lv_aload_n hx hb dX7_is_43 rfl (lv_at hl 0 rfl) ?_
        refine x_gI X K O 2 hk LC_24 rfl rfl in_X7 (by decide) q460 dX7_is_44 ?_
        refine lv_iload_n hx hb dX7_is_47 rfl (lv_at hl 3 rfl) ?_
        refine lv_iadd hx hb dX7_is_48 ?_
        obtain ⟨c_6, hf⟩ := ck_s hf
        refine x_bld X K O rfl LC_7 c_6 (j := (Int32.toNatClampNeg ((gI σ 24 v 0 2) + x3))) rfl dX7_is_49 ?_
        refine lv_aload_n hx hb dX7_is_50 rfl (lv_at hl 1 rfl) ?_
        refine lv_iload_n hx hb dX7_is_51 rfl (lv_at hl 3 rfl) ?_
        obtain ⟨c_8, hf⟩ := ck_s hf
        refine x_calli (x_runVE (As := [.int x3]) (rest := [.int (gI σ 7 0 0 (Int32.toNatClampNeg ((gI σ 24 v 0 2) + x3)))]) X K O (vk_recv hE.1 hi1 O.S) (m_charAt hi1 c_8 (slen_lt hi1 c_8)) ES_b (ES_h hE) (lw_V q522 q523 q524 q126 q525) 1 rfl hl.1 (Nat.le_of_ble_eq_true rfl) hdV_J6_charAt ⟨by decide, by decide⟩ ⟨Nat.le_refl _, Nat.le_refl _⟩ dX7_is_52) (fun r u H locs hp O _ => ?_)
        subst hp
        have O : XH D A s.heap (hC hs) (xct (LC Δ) (okC Δ) (hC hs) d σ) H locs := O
        refine lv_icmp_ne (tgt := 62) hx hb dX7_is_55 (by decide) (fun c_9 => ?_) (fun c_9 => ?_)
        · replace hf := if_f c_9 hf
          refine lv_iconst (v := 0) hx hb dX7_is_62 (by decide) ?_
          exact w_C_X7_is_b63 X K hE hk hi1 ih _ _ _ ls _ _ O (lv_sub hl [0, 1, 3] rfl) hf
        · replace hf := if_t c_9 hf
          refine lv_iconst (v := 1) hx hb dX7_is_58 (by decide) ?_
          refine lv_goto (tgt := 63) hx hb dX7_is_59 (by decide) ?_
          exact w_C_X7_is_b63 X K hE hk hi1 ih _ _ _ ls _ _ O (lv_sub hl [0, 1, 3] rfl) hf
def C_X7_is_b21 (Δ : DT) (v : Nat) (i1 : Nat) (σ : ST) (s0 : Int32) : Option (ST × Int32) :=
  C_X7_is_b24 Δ v i1 FUEL σ s0 0
theorem w_C_X7_is_b21 {adK adV : Nat → Nat} {e0 : Nat} {Δ : DT} {v : Nat} {i1 : Nat} (X : FX p m c meth s args RX7 cX7_is 4 (some .boolean)) (K : XK D d A s) (hE : (ES adK adV e0) A s) {z : ST × Int32} (hk : okC Δ 24 v 0 = true) (hi1 : i1 < 22) (σ : ST) (s0 : Int32) (ls : Array Slot) (H : Heap) (locs : List Loc) (O : XH D A s.heap (hC hs) (xct (LC Δ) (okC Δ) (hC hs) d σ) H locs) (hl : lv_has ls 4 [(0, .ref ((hC hs) 24 v 0)), (1, .ref (adK i1))]) (hf : C_X7_is_b21 Δ v i1 σ s0 = some z) : W p l e (rmD 4 0 0) s m args below meth c H locs 0 0 (MQ below (Qi D (pz z) (cw (hC hs) (LC Δ) (okC Δ) d) A) args s 0 0 A) (F0 m 21 ls [.int s0]) := by
  have hx := X.1.1; have hb := X.1.2.1
  rw [C_X7_is_b21] at hf
  refine lv_istore_n (lv' := [(2, .int s0), (0, .ref ((hC hs) 24 v 0)), (1, .ref (adK i1))]) hx hb dX7_is_21 rfl hl (by decide) rfl (fun ls hl => ?_)
  refine lv_iconst (v := 0) hx hb dX7_is_22 (by decide) ?_
  refine lv_istore_n (lv' := [(3, .int 0), (2, .int s0), (0, .ref ((hC hs) 24 v 0)), (1, .ref (adK i1))]) hx hb dX7_is_23 rfl hl (by decide) rfl (fun ls hl => ?_)
  exact w_C_X7_is_b24 X K hE hk hi1 _ _ _ _ ls _ _ O (lv_sub hl [2, 3, 1, 0] rfl) hf
def C_X7_is (Δ : DT) (v : Nat) (i1 : Nat) (σ : ST) : Option (ST × Int32) :=
  (if ((gI σ 24 v 0 1) - (gI σ 24 v 0 2)) = (slen i1) then C_X7_is_b21 Δ v i1 σ 1 else C_X7_is_b21 Δ v i1 σ 0)
theorem m_C_X7_is {l : Launch} {D : va_G} {d : Nat → ClassId} {hs : IX} {adK adV : Nat → Nat} {e0 : Nat} {Δ : DT} {v : Nat} {i1 : Nat} {σ : ST} {z : ST × Int32} (hk : okC Δ 24 v 0 = true) (hi1 : i1 < 22) (hf : C_X7_is Δ v i1 σ = some z) : XM l D d (ES adK adV e0) yX7_is cX7_is 4 (some .boolean) 4 0 0 [.ref ((hC hs) 24 v 0), .ref (adK i1)] (hC hs) (xct (LC Δ) (okC Δ) (hC hs) d σ) (Qi D (pz z) (cw (hC hs) (LC Δ) (okC Δ) d)) := by
  refine XM.of (by decide +kernel) (Nat.le_of_ble_eq_true rfl) ?_
  intro p e s m below meth c A ls X _ K hE O hl
  have hl : lv_has ls 4 [(0, .ref ((hC hs) 24 v 0)), (1, .ref (adK i1))] := hl
  have hx := X.1.1; have hb := X.1.2.1
  rw [C_X7_is] at hf
  refine lv_aload_n hx hb dX7_is_0 rfl (lv_at hl 0 rfl) ?_
  refine x_gI X K O 1 hk LC_24 rfl rfl in_X7 (by decide) q459 dX7_is_1 ?_
  refine lv_aload_n hx hb dX7_is_4 rfl (lv_at hl 0 rfl) ?_
  refine x_gI X K O 2 hk LC_24 rfl rfl in_X7 (by decide) q460 dX7_is_5 ?_
  refine lv_isub hx hb dX7_is_8 ?_
  refine lv_aload_n hx hb dX7_is_9 rfl (lv_at hl 1 rfl) ?_
  refine x_calli (x_runVE (As := []) (rest := [.int ((gI σ 24 v 0 1) - (gI σ 24 v 0 2))]) X K O (vk_recv hE.1 hi1 O.S) (m_length hi1) ES_b (ES_h hE) (lw_V q512 q513 q514 q126 q515) 0 rfl hl.1 (Nat.le_of_ble_eq_true rfl) hdV_J6_length ⟨by decide, by decide⟩ ⟨Nat.le_refl _, Nat.le_refl _⟩ dX7_is_10) (fun r u H locs hp O _ => ?_)
  subst hp
  have O : XH D A s.heap (hC hs) (xct (LC Δ) (okC Δ) (hC hs) d σ) H locs := O
  refine lv_icmp_ne (tgt := 20) hx hb dX7_is_13 (by decide) (fun c_2 => ?_) (fun c_2 => ?_)
  · replace hf := if_f c_2 hf
    refine lv_iconst (v := 0) hx hb dX7_is_20 (by decide) ?_
    exact w_C_X7_is_b21 X K hE hk hi1 _ _ ls _ _ O (lv_sub hl [0, 1] rfl) hf
  · replace hf := if_t c_2 hf
    refine lv_iconst (v := 1) hx hb dX7_is_16 (by decide) ?_
    refine lv_goto (tgt := 21) hx hb dX7_is_17 (by decide) ?_
    exact w_C_X7_is_b21 X K hE hk hi1 _ _ ls _ _ O (lv_sub hl [0, 1] rfl) hf
theorem hdV_X7_is : yX7_is.cls = RX7 ∧ (yX7_is.cls ≠ "java/lang/invoke/MethodHandle" ∧ yX7_is.cls ≠ "java/lang/invoke/VarHandle" ∧ (parseMethodDescriptor yX7_is.desc).map (fun d => d.parameters.length) = some 1) := by decide +kernel
def C_X7_both (Δ : DT) (v : Nat) (σ : ST) : Option (ST × Int32) :=
  bn2 (C_X7_is Δ v 0 σ) (fun σ_1 r_2 => (if r_2 = 0 then bn2 (C_X7_is Δ v 1 σ_1) (fun σ_4 r_5 => (if r_5 = 0 then bn2 (C_X7_is Δ v 2 σ_4) (fun σ_7 r_8 => (if r_8 = 0 then bn2 (C_X7_is Δ v 3 σ_7) (fun σ_10 r_11 => (if r_11 = 0 then bn2 (C_X7_is Δ v 4 σ_10) (fun σ_13 r_14 => (if r_14 = 0 then bn2 (C_X7_is Δ v 5 σ_13) (fun σ_16 r_17 => (if r_17 = 0 then bn2 (C_X7_is Δ v 6 σ_16) (fun σ_19 r_20 => (if r_20 = 0 then bn2 (C_X7_is Δ v 7 σ_19) (fun σ_22 r_23 => (if r_23 = 0 then bn2 (C_X7_is Δ v 8 σ_22) (fun σ_25 r_26 => (if r_26 = 0 then bn2 (C_X7_is Δ v 9 σ_25) (fun σ_28 r_29 => (if r_29 = 0 then bn2 (C_X7_is Δ v 10 σ_28) (fun σ_31 r_32 => (if r_32 = 0 then some (σ_31, 1) else some (σ_31, 406))) else some (σ_28, 405))) else some (σ_25, 404))) else some (σ_22, 403))) else some (σ_19, 402))) else some (σ_16, 401))) else some (σ_13, 400))) else some (σ_10, 6))) else some (σ_7, 5))) else some (σ_4, 4))) else some (σ_1, 3)))
theorem m_C_X7_both {l : Launch} {D : va_G} {d : Nat → ClassId} {hs : IX} {adK adV : Nat → Nat} {e0 : Nat} {Δ : DT} {v : Nat} {σ : ST} {z : ST × Int32} (hk : okC Δ 24 v 0 = true) (hf : C_X7_both Δ v σ = some z) : XM l D d (ES adK adV e0) yX7_both cX7_both 1 (some .int) 5 0 0 [.ref ((hC hs) 24 v 0)] (hC hs) (xct (LC Δ) (okC Δ) (hC hs) d σ) (Qi D (pz z) (cw (hC hs) (LC Δ) (okC Δ) d)) := by
  refine XM.of (by decide +kernel) (Nat.le_of_ble_eq_true rfl) ?_
  intro p e s m below meth c A ls X _ K hE O hl
  have hl : lv_has ls 1 [(0, .ref ((hC hs) 24 v 0))] := hl
  have hx := X.1.1; have hb := X.1.2.1
  rw [C_X7_both] at hf
  refine lv_aload_n hx hb dX7_both_0 rfl (lv_at hl 0 rfl) ?_
  refine va_ldcS hx hb X.1.2.2.2.1 (hE.2.1 0 _ rfl) dX7_both_1 ?_
  obtain ⟨σ_1, r_2, hg, hf⟩ := bn2_s hf
  refine x_calli (x_runV (As := [.ref (adK 0)]) (rest := []) X K O (xct_obj hk LC_24) rfl (m_C_X7_is hk (by decide) hg) ES_b (ES_h hE) (lw_V q508 q510 qs9 q125 q511) 1 rfl hl.1 (Nat.le_of_ble_eq_true rfl) hdV_X7_is ⟨by decide, by decide⟩ ⟨Nat.le_refl _, Nat.le_refl _⟩ dX7_both_3) (fun r u H locs hp O _ => ?_)
  cases hp
  have O : XH D A s.heap (hC hs) (xct (LC Δ) (okC Δ) (hC hs) d σ_1) H locs := O
  refine lv_if_eq (tgt := 11) hx hb dX7_both_6 (by decide) (fun c_3 => ?_) (fun c_3 => ?_)
  · replace hf := if_t c_3 hf
    refine lv_aload_n hx hb dX7_both_11 rfl (lv_at hl 0 rfl) ?_
    refine va_ldcS hx hb X.1.2.2.2.1 (hE.2.1 1 _ rfl) dX7_both_12 ?_
    obtain ⟨σ_4, r_5, hg, hf⟩ := bn2_s hf
    refine x_calli (x_runV (As := [.ref (adK 1)]) (rest := []) X K O (xct_obj hk LC_24) rfl (m_C_X7_is hk (by decide) hg) ES_b (ES_h hE) (lw_V q508 q510 qs9 q125 q511) 1 rfl hl.1 (Nat.le_of_ble_eq_true rfl) hdV_X7_is ⟨by decide, by decide⟩ ⟨Nat.le_refl _, Nat.le_refl _⟩ dX7_both_14) (fun r u H locs hp O _ => ?_)
    cases hp
    have O : XH D A s.heap (hC hs) (xct (LC Δ) (okC Δ) (hC hs) d σ_4) H locs := O
    refine lv_if_eq (tgt := 22) hx hb dX7_both_17 (by decide) (fun c_6 => ?_) (fun c_6 => ?_)
    · replace hf := if_t c_6 hf
      refine lv_aload_n hx hb dX7_both_22 rfl (lv_at hl 0 rfl) ?_
      refine va_ldcS hx hb X.1.2.2.2.1 (hE.2.1 2 _ rfl) dX7_both_23 ?_
      obtain ⟨σ_7, r_8, hg, hf⟩ := bn2_s hf
      refine x_calli (x_runV (As := [.ref (adK 2)]) (rest := []) X K O (xct_obj hk LC_24) rfl (m_C_X7_is hk (by decide) hg) ES_b (ES_h hE) (lw_V q508 q510 qs9 q125 q511) 1 rfl hl.1 (Nat.le_of_ble_eq_true rfl) hdV_X7_is ⟨by decide, by decide⟩ ⟨Nat.le_refl _, Nat.le_refl _⟩ dX7_both_25) (fun r u H locs hp O _ => ?_)
      cases hp
      have O : XH D A s.heap (hC hs) (xct (LC Δ) (okC Δ) (hC hs) d σ_7) H locs := O
      refine lv_if_eq (tgt := 33) hx hb dX7_both_28 (by decide) (fun c_9 => ?_) (fun c_9 => ?_)
      · replace hf := if_t c_9 hf
        refine lv_aload_n hx hb dX7_both_33 rfl (lv_at hl 0 rfl) ?_
        refine va_ldcS hx hb X.1.2.2.2.1 (hE.2.1 3 _ rfl) dX7_both_34 ?_
        obtain ⟨σ_10, r_11, hg, hf⟩ := bn2_s hf
        refine x_calli (x_runV (As := [.ref (adK 3)]) (rest := []) X K O (xct_obj hk LC_24) rfl (m_C_X7_is hk (by decide) hg) ES_b (ES_h hE) (lw_V q508 q510 qs9 q125 q511) 1 rfl hl.1 (Nat.le_of_ble_eq_true rfl) hdV_X7_is ⟨by decide, by decide⟩ ⟨Nat.le_refl _, Nat.le_refl _⟩ dX7_both_36) (fun r u H locs hp O _ => ?_)
        cases hp
        have O : XH D A s.heap (hC hs) (xct (LC Δ) (okC Δ) (hC hs) d σ_10) H locs := O
        refine lv_if_eq (tgt := 45) hx hb dX7_both_39 (by decide) (fun c_12 => ?_) (fun c_12 => ?_)
        · replace hf := if_t c_12 hf
          refine lv_aload_n hx hb dX7_both_45 rfl (lv_at hl 0 rfl) ?_
          refine va_ldcS hx hb X.1.2.2.2.1 (hE.2.1 4 _ rfl) dX7_both_46 ?_
          obtain ⟨σ_13, r_14, hg, hf⟩ := bn2_s hf
          refine x_calli (x_runV (As := [.ref (adK 4)]) (rest := []) X K O (xct_obj hk LC_24) rfl (m_C_X7_is hk (by decide) hg) ES_b (ES_h hE) (lw_V q508 q510 qs9 q125 q511) 1 rfl hl.1 (Nat.le_of_ble_eq_true rfl) hdV_X7_is ⟨by decide, by decide⟩ ⟨Nat.le_refl _, Nat.le_refl _⟩ dX7_both_48) (fun r u H locs hp O _ => ?_)
          cases hp
          have O : XH D A s.heap (hC hs) (xct (LC Δ) (okC Δ) (hC hs) d σ_13) H locs := O
          refine lv_if_eq (tgt := 58) hx hb dX7_both_51 (by decide) (fun c_15 => ?_) (fun c_15 => ?_)
          · replace hf := if_t c_15 hf
            refine lv_aload_n hx hb dX7_both_58 rfl (lv_at hl 0 rfl) ?_
            refine va_ldcS hx hb X.1.2.2.2.1 (hE.2.1 5 _ rfl) dX7_both_59 ?_
            obtain ⟨σ_16, r_17, hg, hf⟩ := bn2_s hf
            refine x_calli (x_runV (As := [.ref (adK 5)]) (rest := []) X K O (xct_obj hk LC_24) rfl (m_C_X7_is hk (by decide) hg) ES_b (ES_h hE) (lw_V q508 q510 qs9 q125 q511) 1 rfl hl.1 (Nat.le_of_ble_eq_true rfl) hdV_X7_is ⟨by decide, by decide⟩ ⟨Nat.le_refl _, Nat.le_refl _⟩ dX7_both_61) (fun r u H locs hp O _ => ?_)
            cases hp
            have O : XH D A s.heap (hC hs) (xct (LC Δ) (okC Δ) (hC hs) d σ_16) H locs := O
            refine lv_if_eq (tgt := 71) hx hb dX7_both_64 (by decide) (fun c_18 => ?_) (fun c_18 => ?_)
            · replace hf := if_t c_18 hf
              refine lv_aload_n hx hb dX7_both_71 rfl (lv_at hl 0 rfl) ?_
              refine va_ldcS hx hb X.1.2.2.2.1 (hE.2.1 6 _ rfl) dX7_both_72 ?_
              obtain ⟨σ_19, r_20, hg, hf⟩ := bn2_s hf
              refine x_calli (x_runV (As := [.ref (adK 6)]) (rest := []) X K O (xct_obj hk LC_24) rfl (m_C_X7_is hk (by decide) hg) ES_b (ES_h hE) (lw_V q508 q510 qs9 q125 q511) 1 rfl hl.1 (Nat.le_of_ble_eq_true rfl) hdV_X7_is ⟨by decide, by decide⟩ ⟨Nat.le_refl _, Nat.le_refl _⟩ dX7_both_74) (fun r u H locs hp O _ => ?_)
              cases hp
              have O : XH D A s.heap (hC hs) (xct (LC Δ) (okC Δ) (hC hs) d σ_19) H locs := O
              refine lv_if_eq (tgt := 84) hx hb dX7_both_77 (by decide) (fun c_21 => ?_) (fun c_21 => ?_)
              · replace hf := if_t c_21 hf
                refine lv_aload_n hx hb dX7_both_84 rfl (lv_at hl 0 rfl) ?_
                refine va_ldcS hx hb X.1.2.2.2.1 (hE.2.1 7 _ rfl) dX7_both_85 ?_
                obtain ⟨σ_22, r_23, hg, hf⟩ := bn2_s hf
                refine x_calli (x_runV (As := [.ref (adK 7)]) (rest := []) X K O (xct_obj hk LC_24) rfl (m_C_X7_is hk (by decide) hg) ES_b (ES_h hE) (lw_V q508 q510 qs9 q125 q511) 1 rfl hl.1 (Nat.le_of_ble_eq_true rfl) hdV_X7_is ⟨by decide, by decide⟩ ⟨Nat.le_refl _, Nat.le_refl _⟩ dX7_both_87) (fun r u H locs hp O _ => ?_)
                cases hp
                have O : XH D A s.heap (hC hs) (xct (LC Δ) (okC Δ) (hC hs) d σ_22) H locs := O
                refine lv_if_eq (tgt := 97) hx hb dX7_both_90 (by decide) (fun c_24 => ?_) (fun c_24 => ?_)
                · replace hf := if_t c_24 hf
                  refine lv_aload_n hx hb dX7_both_97 rfl (lv_at hl 0 rfl) ?_
                  refine va_ldcS hx hb X.1.2.2.2.1 (hE.2.1 8 _ rfl) dX7_both_98 ?_
                  obtain ⟨σ_25, r_26, hg, hf⟩ := bn2_s hf
                  refine x_calli (x_runV (As := [.ref (adK 8)]) (rest := []) X K O (xct_obj hk LC_24) rfl (m_C_X7_is hk (by decide) hg) ES_b (ES_h hE) (lw_V q508 q510 qs9 q125 q511) 1 rfl hl.1 (Nat.le_of_ble_eq_true rfl) hdV_X7_is ⟨by decide, by decide⟩ ⟨Nat.le_refl _, Nat.le_refl _⟩ dX7_both_100) (fun r u H locs hp O _ => ?_)
                  cases hp
                  have O : XH D A s.heap (hC hs) (xct (LC Δ) (okC Δ) (hC hs) d σ_25) H locs := O
                  refine lv_if_eq (tgt := 110) hx hb dX7_both_103 (by decide) (fun c_27 => ?_) (fun c_27 => ?_)
                  · replace hf := if_t c_27 hf
                    refine lv_aload_n hx hb dX7_both_110 rfl (lv_at hl 0 rfl) ?_
                    refine va_ldcS hx hb X.1.2.2.2.1 (hE.2.1 9 _ rfl) dX7_both_111 ?_
                    obtain ⟨σ_28, r_29, hg, hf⟩ := bn2_s hf
                    refine x_calli (x_runV (As := [.ref (adK 9)]) (rest := []) X K O (xct_obj hk LC_24) rfl (m_C_X7_is hk (by decide) hg) ES_b (ES_h hE) (lw_V q508 q510 qs9 q125 q511) 1 rfl hl.1 (Nat.le_of_ble_eq_true rfl) hdV_X7_is ⟨by decide, by decide⟩ ⟨Nat.le_refl _, Nat.le_refl _⟩ dX7_both_113) (fun r u H locs hp O _ => ?_)
                    cases hp
                    have O : XH D A s.heap (hC hs) (xct (LC Δ) (okC Δ) (hC hs) d σ_28) H locs := O
                    refine lv_if_eq (tgt := 123) hx hb dX7_both_116 (by decide) (fun c_30 => ?_) (fun c_30 => ?_)
                    · replace hf := if_t c_30 hf
                      refine lv_aload_n hx hb dX7_both_123 rfl (lv_at hl 0 rfl) ?_
                      refine va_ldcS hx hb X.1.2.2.2.1 (hE.2.1 10 _ rfl) dX7_both_124 ?_
                      obtain ⟨σ_31, r_32, hg, hf⟩ := bn2_s hf
                      refine x_calli (x_runV (As := [.ref (adK 10)]) (rest := []) X K O (xct_obj hk LC_24) rfl (m_C_X7_is hk (by decide) hg) ES_b (ES_h hE) (lw_V q508 q510 qs9 q125 q511) 1 rfl hl.1 (Nat.le_of_ble_eq_true rfl) hdV_X7_is ⟨by decide, by decide⟩ ⟨Nat.le_refl _, Nat.le_refl _⟩ dX7_both_126) (fun r u H locs hp O _ => ?_)
                      cases hp
                      have O : XH D A s.heap (hC hs) (xct (LC Δ) (okC Δ) (hC hs) d σ_31) H locs := O
                      refine lv_if_eq (tgt := 138) hx hb dX7_both_129 (by decide) (fun c_33 => ?_) (fun c_33 => ?_)
                      · replace hf := if_t c_33 hf
                        refine lv_iconst (v := 1) hx hb dX7_both_138 (by decide) ?_
                        exact x_iret X O rfl _ (Option.some.inj hf).symm rfl dX7_both_139
                      · replace hf := if_f c_33 hf
                        refine lv_sipush (v := 406) hx hb dX7_both_132 (by decide) ?_
                        refine lv_goto (tgt := 139) hx hb dX7_both_135 (by decide) ?_
                        exact x_iret X O rfl _ (Option.some.inj hf).symm rfl dX7_both_139
                    · replace hf := if_f c_30 hf
                      refine lv_sipush (v := 405) hx hb dX7_both_119 (by decide) ?_
                      exact x_iret X O rfl _ (Option.some.inj hf).symm rfl dX7_both_122
                  · replace hf := if_f c_27 hf
                    refine lv_sipush (v := 404) hx hb dX7_both_106 (by decide) ?_
                    exact x_iret X O rfl _ (Option.some.inj hf).symm rfl dX7_both_109
                · replace hf := if_f c_24 hf
                  refine lv_sipush (v := 403) hx hb dX7_both_93 (by decide) ?_
                  exact x_iret X O rfl _ (Option.some.inj hf).symm rfl dX7_both_96
              · replace hf := if_f c_21 hf
                refine lv_sipush (v := 402) hx hb dX7_both_80 (by decide) ?_
                exact x_iret X O rfl _ (Option.some.inj hf).symm rfl dX7_both_83
            · replace hf := if_f c_18 hf
              refine lv_sipush (v := 401) hx hb dX7_both_67 (by decide) ?_
              exact x_iret X O rfl _ (Option.some.inj hf).symm rfl dX7_both_70
          · replace hf := if_f c_15 hf
            refine lv_sipush (v := 400) hx hb dX7_both_54 (by decide) ?_
            exact x_iret X O rfl _ (Option.some.inj hf).symm rfl dX7_both_57
        · replace hf := if_f c_12 hf
          refine lv_bipush (v := 6) hx hb dX7_both_42 (by decide) ?_
          exact x_iret X O rfl _ (Option.some.inj hf).symm rfl dX7_both_44
      · replace hf := if_f c_9 hf
        refine lv_iconst (v := 5) hx hb dX7_both_31 (by decide) ?_
        exact x_iret X O rfl _ (Option.some.inj hf).symm rfl dX7_both_32
    · replace hf := if_f c_6 hf
      refine lv_iconst (v := 4) hx hb dX7_both_20 (by decide) ?_
      exact x_iret X O rfl _ (Option.some.inj hf).symm rfl dX7_both_21
  · replace hf := if_f c_3 hf
    refine lv_iconst (v := 3) hx hb dX7_both_9 (by decide) ?_
    exact x_iret X O rfl _ (Option.some.inj hf).symm rfl dX7_both_10
def C_X7_ofRules (Δ : DT) (v : Nat) (σ : ST) : Option (ST × Int32) :=
  bn2 (C_X7_is Δ v 11 σ) (fun σ_1 r_2 => (if r_2 = 0 then bn2 (C_X7_is Δ v 12 σ_1) (fun σ_4 r_5 => (if r_5 = 0 then bn2 (C_X7_is Δ v 13 σ_4) (fun σ_7 r_8 => (if r_8 = 0 then bn2 (C_X7_is Δ v 14 σ_7) (fun σ_10 r_11 => (if r_11 = 0 then bn2 (C_X7_is Δ v 15 σ_10) (fun σ_13 r_14 => (if r_14 = 0 then bn2 (C_X7_is Δ v 16 σ_13) (fun σ_16 r_17 => (if r_17 = 0 then bn2 (C_X7_is Δ v 17 σ_16) (fun σ_19 r_20 => (if r_20 = 0 then bn2 (C_X7_is Δ v 18 σ_19) (fun σ_22 r_23 => (if r_23 = 0 then bn2 (C_X7_is Δ v 19 σ_22) (fun σ_25 r_26 => (if r_26 = 0 then bn2 (C_X7_is Δ v 20 σ_25) (fun σ_28 r_29 => (if r_29 = 0 then some (σ_28, 1) else some (σ_28, 414))) else some (σ_25, 413))) else some (σ_22, 412))) else some (σ_19, 411))) else some (σ_16, 410))) else some (σ_13, 409))) else some (σ_10, 408))) else some (σ_7, 407))) else some (σ_4, 302))) else some (σ_1, 301)))
theorem m_C_X7_ofRules {l : Launch} {D : va_G} {d : Nat → ClassId} {hs : IX} {adK adV : Nat → Nat} {e0 : Nat} {Δ : DT} {v : Nat} {σ : ST} {z : ST × Int32} (hk : okC Δ 24 v 0 = true) (hf : C_X7_ofRules Δ v σ = some z) : XM l D d (ES adK adV e0) yX7_ofRules cX7_ofRules 1 (some .int) 5 0 0 [.ref ((hC hs) 24 v 0)] (hC hs) (xct (LC Δ) (okC Δ) (hC hs) d σ) (Qi D (pz z) (cw (hC hs) (LC Δ) (okC Δ) d)) := by
  refine XM.of (by decide +kernel) (Nat.le_of_ble_eq_true rfl) ?_
  intro p e s m below meth c A ls X _ K hE O hl
  have hl : lv_has ls 1 [(0, .ref ((hC hs) 24 v 0))] := hl
  have hx := X.1.1; have hb := X.1.2.1
  rw [C_X7_ofRules] at hf
  refine lv_aload_n hx hb dX7_ofRules_0 rfl (lv_at hl 0 rfl) ?_
  refine va_ldcS hx hb X.1.2.2.2.1 (hE.2.1 11 _ rfl) dX7_ofRules_1 ?_
  obtain ⟨σ_1, r_2, hg, hf⟩ := bn2_s hf
  refine x_calli (x_runV (As := [.ref (adK 11)]) (rest := []) X K O (xct_obj hk LC_24) rfl (m_C_X7_is hk (by decide) hg) ES_b (ES_h hE) (lw_V q508 q510 qs9 q125 q511) 1 rfl hl.1 (Nat.le_of_ble_eq_true rfl) hdV_X7_is ⟨by decide, by decide⟩ ⟨Nat.le_refl _, Nat.le_refl _⟩ dX7_ofRules_3) (fun r u H locs hp O _ => ?_)
  cases hp
  have O : XH D A s.heap (hC hs) (xct (LC Δ) (okC Δ) (hC hs) d σ_1) H locs := O
  refine lv_if_eq (tgt := 13) hx hb dX7_ofRules_6 (by decide) (fun c_3 => ?_) (fun c_3 => ?_)
  · replace hf := if_t c_3 hf
    refine lv_aload_n hx hb dX7_ofRules_13 rfl (lv_at hl 0 rfl) ?_
    refine va_ldcS hx hb X.1.2.2.2.1 (hE.2.1 12 _ rfl) dX7_ofRules_14 ?_
    obtain ⟨σ_4, r_5, hg, hf⟩ := bn2_s hf
    refine x_calli (x_runV (As := [.ref (adK 12)]) (rest := []) X K O (xct_obj hk LC_24) rfl (m_C_X7_is hk (by decide) hg) ES_b (ES_h hE) (lw_V q508 q510 qs9 q125 q511) 1 rfl hl.1 (Nat.le_of_ble_eq_true rfl) hdV_X7_is ⟨by decide, by decide⟩ ⟨Nat.le_refl _, Nat.le_refl _⟩ dX7_ofRules_16) (fun r u H locs hp O _ => ?_)
    cases hp
    have O : XH D A s.heap (hC hs) (xct (LC Δ) (okC Δ) (hC hs) d σ_4) H locs := O
    refine lv_if_eq (tgt := 26) hx hb dX7_ofRules_19 (by decide) (fun c_6 => ?_) (fun c_6 => ?_)
    · replace hf := if_t c_6 hf
      refine lv_aload_n hx hb dX7_ofRules_26 rfl (lv_at hl 0 rfl) ?_
      refine va_ldcS hx hb X.1.2.2.2.1 (hE.2.1 13 _ rfl) dX7_ofRules_27 ?_
      obtain ⟨σ_7, r_8, hg, hf⟩ := bn2_s hf
      refine x_calli (x_runV (As := [.ref (adK 13)]) (rest := []) X K O (xct_obj hk LC_24) rfl (m_C_X7_is hk (by decide) hg) ES_b (ES_h hE) (lw_V q508 q510 qs9 q125 q511) 1 rfl hl.1 (Nat.le_of_ble_eq_true rfl) hdV_X7_is ⟨by decide, by decide⟩ ⟨Nat.le_refl _, Nat.le_refl _⟩ dX7_ofRules_29) (fun r u H locs hp O _ => ?_)
      cases hp
      have O : XH D A s.heap (hC hs) (xct (LC Δ) (okC Δ) (hC hs) d σ_7) H locs := O
      refine lv_if_eq (tgt := 39) hx hb dX7_ofRules_32 (by decide) (fun c_9 => ?_) (fun c_9 => ?_)
      · replace hf := if_t c_9 hf
        refine lv_aload_n hx hb dX7_ofRules_39 rfl (lv_at hl 0 rfl) ?_
        refine va_ldcS hx hb X.1.2.2.2.1 (hE.2.1 14 _ rfl) dX7_ofRules_40 ?_
        obtain ⟨σ_10, r_11, hg, hf⟩ := bn2_s hf
        refine x_calli (x_runV (As := [.ref (adK 14)]) (rest := []) X K O (xct_obj hk LC_24) rfl (m_C_X7_is hk (by decide) hg) ES_b (ES_h hE) (lw_V q508 q510 qs9 q125 q511) 1 rfl hl.1 (Nat.le_of_ble_eq_true rfl) hdV_X7_is ⟨by decide, by decide⟩ ⟨Nat.le_refl _, Nat.le_refl _⟩ dX7_ofRules_42) (fun r u H locs hp O _ => ?_)
        cases hp
        have O : XH D A s.heap (hC hs) (xct (LC Δ) (okC Δ) (hC hs) d σ_10) H locs := O
        refine lv_if_eq (tgt := 52) hx hb dX7_ofRules_45 (by decide) (fun c_12 => ?_) (fun c_12 => ?_)
        · replace hf := if_t c_12 hf
          refine lv_aload_n hx hb dX7_ofRules_52 rfl (lv_at hl 0 rfl) ?_
          refine va_ldcS hx hb X.1.2.2.2.1 (hE.2.1 15 _ rfl) dX7_ofRules_53 ?_
          obtain ⟨σ_13, r_14, hg, hf⟩ := bn2_s hf
          refine x_calli (x_runV (As := [.ref (adK 15)]) (rest := []) X K O (xct_obj hk LC_24) rfl (m_C_X7_is hk (by decide) hg) ES_b (ES_h hE) (lw_V q508 q510 qs9 q125 q511) 1 rfl hl.1 (Nat.le_of_ble_eq_true rfl) hdV_X7_is ⟨by decide, by decide⟩ ⟨Nat.le_refl _, Nat.le_refl _⟩ dX7_ofRules_55) (fun r u H locs hp O _ => ?_)
          cases hp
          have O : XH D A s.heap (hC hs) (xct (LC Δ) (okC Δ) (hC hs) d σ_13) H locs := O
          refine lv_if_eq (tgt := 65) hx hb dX7_ofRules_58 (by decide) (fun c_15 => ?_) (fun c_15 => ?_)
          · replace hf := if_t c_15 hf
            refine lv_aload_n hx hb dX7_ofRules_65 rfl (lv_at hl 0 rfl) ?_
            refine va_ldcS hx hb X.1.2.2.2.1 (hE.2.1 16 _ rfl) dX7_ofRules_66 ?_
            obtain ⟨σ_16, r_17, hg, hf⟩ := bn2_s hf
            refine x_calli (x_runV (As := [.ref (adK 16)]) (rest := []) X K O (xct_obj hk LC_24) rfl (m_C_X7_is hk (by decide) hg) ES_b (ES_h hE) (lw_V q508 q510 qs9 q125 q511) 1 rfl hl.1 (Nat.le_of_ble_eq_true rfl) hdV_X7_is ⟨by decide, by decide⟩ ⟨Nat.le_refl _, Nat.le_refl _⟩ dX7_ofRules_68) (fun r u H locs hp O _ => ?_)
            cases hp
            have O : XH D A s.heap (hC hs) (xct (LC Δ) (okC Δ) (hC hs) d σ_16) H locs := O
            refine lv_if_eq (tgt := 78) hx hb dX7_ofRules_71 (by decide) (fun c_18 => ?_) (fun c_18 => ?_)
            · replace hf := if_t c_18 hf
              refine lv_aload_n hx hb dX7_ofRules_78 rfl (lv_at hl 0 rfl) ?_
              refine va_ldcS hx hb X.1.2.2.2.1 (hE.2.1 17 _ rfl) dX7_ofRules_79 ?_
              obtain ⟨σ_19, r_20, hg, hf⟩ := bn2_s hf
              refine x_calli (x_runV (As := [.ref (adK 17)]) (rest := []) X K O (xct_obj hk LC_24) rfl (m_C_X7_is hk (by decide) hg) ES_b (ES_h hE) (lw_V q508 q510 qs9 q125 q511) 1 rfl hl.1 (Nat.le_of_ble_eq_true rfl) hdV_X7_is ⟨by decide, by decide⟩ ⟨Nat.le_refl _, Nat.le_refl _⟩ dX7_ofRules_81) (fun r u H locs hp O _ => ?_)
              cases hp
              have O : XH D A s.heap (hC hs) (xct (LC Δ) (okC Δ) (hC hs) d σ_19) H locs := O
              refine lv_if_eq (tgt := 91) hx hb dX7_ofRules_84 (by decide) (fun c_21 => ?_) (fun c_21 => ?_)
              · replace hf := if_t c_21 hf
                refine lv_aload_n hx hb dX7_ofRules_91 rfl (lv_at hl 0 rfl) ?_
                refine va_ldcS hx hb X.1.2.2.2.1 (hE.2.1 18 _ rfl) dX7_ofRules_92 ?_
                obtain ⟨σ_22, r_23, hg, hf⟩ := bn2_s hf
                refine x_calli (x_runV (As := [.ref (adK 18)]) (rest := []) X K O (xct_obj hk LC_24) rfl (m_C_X7_is hk (by decide) hg) ES_b (ES_h hE) (lw_V q508 q510 qs9 q125 q511) 1 rfl hl.1 (Nat.le_of_ble_eq_true rfl) hdV_X7_is ⟨by decide, by decide⟩ ⟨Nat.le_refl _, Nat.le_refl _⟩ dX7_ofRules_94) (fun r u H locs hp O _ => ?_)
                cases hp
                have O : XH D A s.heap (hC hs) (xct (LC Δ) (okC Δ) (hC hs) d σ_22) H locs := O
                refine lv_if_eq (tgt := 104) hx hb dX7_ofRules_97 (by decide) (fun c_24 => ?_) (fun c_24 => ?_)
                · replace hf := if_t c_24 hf
                  refine lv_aload_n hx hb dX7_ofRules_104 rfl (lv_at hl 0 rfl) ?_
                  refine va_ldcS hx hb X.1.2.2.2.1 (hE.2.1 19 _ rfl) dX7_ofRules_105 ?_
                  obtain ⟨σ_25, r_26, hg, hf⟩ := bn2_s hf
                  refine x_calli (x_runV (As := [.ref (adK 19)]) (rest := []) X K O (xct_obj hk LC_24) rfl (m_C_X7_is hk (by decide) hg) ES_b (ES_h hE) (lw_V q508 q510 qs9 q125 q511) 1 rfl hl.1 (Nat.le_of_ble_eq_true rfl) hdV_X7_is ⟨by decide, by decide⟩ ⟨Nat.le_refl _, Nat.le_refl _⟩ dX7_ofRules_107) (fun r u H locs hp O _ => ?_)
                  cases hp
                  have O : XH D A s.heap (hC hs) (xct (LC Δ) (okC Δ) (hC hs) d σ_25) H locs := O
                  refine lv_if_eq (tgt := 117) hx hb dX7_ofRules_110 (by decide) (fun c_27 => ?_) (fun c_27 => ?_)
                  · replace hf := if_t c_27 hf
                    refine lv_aload_n hx hb dX7_ofRules_117 rfl (lv_at hl 0 rfl) ?_
                    refine va_ldcS hx hb X.1.2.2.2.1 (hE.2.1 20 _ rfl) dX7_ofRules_118 ?_
                    obtain ⟨σ_28, r_29, hg, hf⟩ := bn2_s hf
                    refine x_calli (x_runV (As := [.ref (adK 20)]) (rest := []) X K O (xct_obj hk LC_24) rfl (m_C_X7_is hk (by decide) hg) ES_b (ES_h hE) (lw_V q508 q510 qs9 q125 q511) 1 rfl hl.1 (Nat.le_of_ble_eq_true rfl) hdV_X7_is ⟨by decide, by decide⟩ ⟨Nat.le_refl _, Nat.le_refl _⟩ dX7_ofRules_120) (fun r u H locs hp O _ => ?_)
                    cases hp
                    have O : XH D A s.heap (hC hs) (xct (LC Δ) (okC Δ) (hC hs) d σ_28) H locs := O
                    refine lv_if_eq (tgt := 132) hx hb dX7_ofRules_123 (by decide) (fun c_30 => ?_) (fun c_30 => ?_)
                    · replace hf := if_t c_30 hf
                      refine lv_iconst (v := 1) hx hb dX7_ofRules_132 (by decide) ?_
                      exact x_iret X O rfl _ (Option.some.inj hf).symm rfl dX7_ofRules_133
                    · replace hf := if_f c_30 hf
                      refine lv_sipush (v := 414) hx hb dX7_ofRules_126 (by decide) ?_
                      refine lv_goto (tgt := 133) hx hb dX7_ofRules_129 (by decide) ?_
                      exact x_iret X O rfl _ (Option.some.inj hf).symm rfl dX7_ofRules_133
                  · replace hf := if_f c_27 hf
                    refine lv_sipush (v := 413) hx hb dX7_ofRules_113 (by decide) ?_
                    exact x_iret X O rfl _ (Option.some.inj hf).symm rfl dX7_ofRules_116
                · replace hf := if_f c_24 hf
                  refine lv_sipush (v := 412) hx hb dX7_ofRules_100 (by decide) ?_
                  exact x_iret X O rfl _ (Option.some.inj hf).symm rfl dX7_ofRules_103
              · replace hf := if_f c_21 hf
                refine lv_sipush (v := 411) hx hb dX7_ofRules_87 (by decide) ?_
                exact x_iret X O rfl _ (Option.some.inj hf).symm rfl dX7_ofRules_90
            · replace hf := if_f c_18 hf
              refine lv_sipush (v := 410) hx hb dX7_ofRules_74 (by decide) ?_
              exact x_iret X O rfl _ (Option.some.inj hf).symm rfl dX7_ofRules_77
          · replace hf := if_f c_15 hf
            refine lv_sipush (v := 409) hx hb dX7_ofRules_61 (by decide) ?_
            exact x_iret X O rfl _ (Option.some.inj hf).symm rfl dX7_ofRules_64
        · replace hf := if_f c_12 hf
          refine lv_sipush (v := 408) hx hb dX7_ofRules_48 (by decide) ?_
          exact x_iret X O rfl _ (Option.some.inj hf).symm rfl dX7_ofRules_51
      · replace hf := if_f c_9 hf
        refine lv_sipush (v := 407) hx hb dX7_ofRules_35 (by decide) ?_
        exact x_iret X O rfl _ (Option.some.inj hf).symm rfl dX7_ofRules_38
    · replace hf := if_f c_6 hf
      refine lv_sipush (v := 302) hx hb dX7_ofRules_22 (by decide) ?_
      exact x_iret X O rfl _ (Option.some.inj hf).symm rfl dX7_ofRules_25
  · replace hf := if_f c_3 hf
    refine lv_sipush (v := 301) hx hb dX7_ofRules_9 (by decide) ?_
    exact x_iret X O rfl _ (Option.some.inj hf).symm rfl dX7_ofRules_12
theorem hdV_X7_both : yX7_both.cls = RX7 ∧ (yX7_both.cls ≠ "java/lang/invoke/MethodHandle" ∧ yX7_both.cls ≠ "java/lang/invoke/VarHandle" ∧ (parseMethodDescriptor yX7_both.desc).map (fun d => d.parameters.length) = some 0) := by decide +kernel
theorem hdV_X7_ofRules : yX7_ofRules.cls = RX7 ∧ (yX7_ofRules.cls ≠ "java/lang/invoke/MethodHandle" ∧ yX7_ofRules.cls ≠ "java/lang/invoke/VarHandle" ∧ (parseMethodDescriptor yX7_ofRules.desc).map (fun d => d.parameters.length) = some 0) := by decide +kernel
def C_X7_keyword (Δ : DT) (v : Nat) (σ : ST) : Option (ST × Int32) :=
  bn2 (C_X7_both Δ v σ) (fun σ_1 r_2 => (if r_2 = 1 then (if (gI σ_1 24 v 0 0) = 0 then bn2 (C_X7_ofRules Δ v σ_1) (fun σ_8 r_9 => some (σ_8, r_9)) else bn2 (C_X7_is Δ v 21 σ_1) (fun σ_5 r_6 => (if r_6 = 0 then some (σ_5, 1) else some (σ_5, 300)))) else some (σ_1, r_2)))
theorem m_C_X7_keyword {l : Launch} {D : va_G} {d : Nat → ClassId} {hs : IX} {adK adV : Nat → Nat} {e0 : Nat} {Δ : DT} {v : Nat} {σ : ST} {z : ST × Int32} (hk : okC Δ 24 v 0 = true) (hf : C_X7_keyword Δ v σ = some z) : XM l D d (ES adK adV e0) yX7_keyword cX7_keyword 2 (some .int) 6 0 0 [.ref ((hC hs) 24 v 0)] (hC hs) (xct (LC Δ) (okC Δ) (hC hs) d σ) (Qi D (pz z) (cw (hC hs) (LC Δ) (okC Δ) d)) := by
  refine XM.of (by decide +kernel) (Nat.le_of_ble_eq_true rfl) ?_
  intro p e s m below meth c A ls X _ K hE O hl
  have hl : lv_has ls 2 [(0, .ref ((hC hs) 24 v 0))] := hl
  have hx := X.1.1; have hb := X.1.2.1
  rw [C_X7_keyword] at hf
  refine lv_aload_n hx hb dX7_keyword_0 rfl (lv_at hl 0 rfl) ?_
  obtain ⟨σ_1, r_2, hg, hf⟩ := bn2_s hf
  refine x_calli (x_runV (As := []) (rest := []) X K O (xct_obj hk LC_24) rfl (m_C_X7_both hk hg) ES_b (ES_h hE) (lw_V q503 q505 qs8 q125 q506) 0 rfl hl.1 (Nat.le_of_ble_eq_true rfl) hdV_X7_both ⟨by decide, by decide⟩ ⟨Nat.le_refl _, Nat.le_refl _⟩ dX7_keyword_1) (fun r u H locs hp O _ => ?_)
  cases hp
  have O : XH D A s.heap (hC hs) (xct (LC Δ) (okC Δ) (hC hs) d σ_1) H locs := O
  refine lv_istore_n (lv' := [(1, .int r_2), (0, .ref ((hC hs) 24 v 0))]) hx hb dX7_keyword_4 rfl hl (by decide) rfl (fun ls hl => ?_)
  refine lv_iload_n hx hb dX7_keyword_5 rfl (lv_at hl 0 rfl) ?_
  refine lv_iconst (v := 1) hx hb dX7_keyword_6 (by decide) ?_
  refine lv_icmp_eq (tgt := 14) hx hb dX7_keyword_7 (by decide) (fun c_3 => ?_) (fun c_3 => ?_)
  · replace hf := if_t c_3 hf
    refine lv_aload_n hx hb dX7_keyword_14 rfl (lv_at hl 1 rfl) ?_
    refine x_gI X K O 0 hk LC_24 rfl rfl in_X7 (by decide) q458 dX7_keyword_15 ?_
    refine lv_if_ne (tgt := 28) hx hb dX7_keyword_18 (by decide) (fun c_4 => ?_) (fun c_4 => ?_)
    · replace hf := if_f c_4 hf
      refine lv_aload_n hx hb dX7_keyword_28 rfl (lv_at hl 1 rfl) ?_
      refine va_ldcS hx hb X.1.2.2.2.1 (hE.2.1 21 _ rfl) dX7_keyword_29 ?_
      obtain ⟨σ_5, r_6, hg, hf⟩ := bn2_s hf
      refine x_calli (x_runV (As := [.ref (adK 21)]) (rest := []) X K O (xct_obj hk LC_24) rfl (m_C_X7_is hk (by decide) hg) ES_b (ES_h hE) (lw_V q508 q510 qs9 q125 q511) 1 rfl hl.1 (Nat.le_of_ble_eq_true rfl) hdV_X7_is ⟨by decide, by decide⟩ ⟨Nat.le_refl _, Nat.le_refl _⟩ dX7_keyword_31) (fun r u H locs hp O _ => ?_)
      cases hp
      have O : XH D A s.heap (hC hs) (xct (LC Δ) (okC Δ) (hC hs) d σ_5) H locs := O
      refine lv_if_eq (tgt := 43) hx hb dX7_keyword_34 (by decide) (fun c_7 => ?_) (fun c_7 => ?_)
      · replace hf := if_t c_7 hf
        refine lv_iconst (v := 1) hx hb dX7_keyword_43 (by decide) ?_
        exact x_iret X O rfl _ (Option.some.inj hf).symm rfl dX7_keyword_44
      · replace hf := if_f c_7 hf
        refine lv_sipush (v := 300) hx hb dX7_keyword_37 (by decide) ?_
        refine lv_goto (tgt := 44) hx hb dX7_keyword_40 (by decide) ?_
        exact x_iret X O rfl _ (Option.some.inj hf).symm rfl dX7_keyword_44
    · replace hf := if_t c_4 hf
      refine lv_aload_n hx hb dX7_keyword_21 rfl (lv_at hl 1 rfl) ?_
      obtain ⟨σ_8, r_9, hg, hf⟩ := bn2_s hf
      refine x_calli (x_runV (As := []) (rest := []) X K O (xct_obj hk LC_24) rfl (m_C_X7_ofRules hk hg) ES_b (ES_h hE) (lw_V q570 q572 qs10 q125 q573) 0 rfl hl.1 (Nat.le_of_ble_eq_true rfl) hdV_X7_ofRules ⟨by decide, by decide⟩ ⟨Nat.le_refl _, Nat.le_refl _⟩ dX7_keyword_22) (fun r u H locs hp O _ => ?_)
      cases hp
      have O : XH D A s.heap (hC hs) (xct (LC Δ) (okC Δ) (hC hs) d σ_8) H locs := O
      refine lv_goto (tgt := 44) hx hb dX7_keyword_25 (by decide) ?_
      exact x_iret X O rfl _ (Option.some.inj hf).symm rfl dX7_keyword_44
  · replace hf := if_f c_3 hf
    refine lv_iload_n hx hb dX7_keyword_10 rfl (lv_at hl 0 rfl) ?_
    refine lv_goto (tgt := 44) hx hb dX7_keyword_11 (by decide) ?_
    exact x_iret X O rfl _ (Option.some.inj hf).symm rfl dX7_keyword_44
theorem hdV_X7_isDigit : yX7_isDigit.cls = RX7 ∧ (yX7_isDigit.cls ≠ "java/lang/invoke/MethodHandle" ∧ yX7_isDigit.cls ≠ "java/lang/invoke/VarHandle" ∧ (parseMethodDescriptor yX7_isDigit.desc).map (fun d => d.parameters.length) = some 0) := by decide +kernel
theorem hdV_X7_isLetter : yX7_isLetter.cls = RX7 ∧ (yX7_isLetter.cls ≠ "java/lang/invoke/MethodHandle" ∧ yX7_isLetter.cls ≠ "java/lang/invoke/VarHandle" ∧ (parseMethodDescriptor yX7_isLetter.desc).map (fun d => d.parameters.length) = some 0) := by decide +kernel
theorem hdV_X7_isMark : yX7_isMark.cls = RX7 ∧ (yX7_isMark.cls ≠ "java/lang/invoke/MethodHandle" ∧ yX7_isMark.cls ≠ "java/lang/invoke/VarHandle" ∧ (parseMethodDescriptor yX7_isMark.desc).map (fun d => d.parameters.length) = some 1) := by decide +kernel
theorem hdV_X7_keyword : yX7_keyword.cls = RX7 ∧ (yX7_keyword.cls ≠ "java/lang/invoke/MethodHandle" ∧ yX7_keyword.cls ≠ "java/lang/invoke/VarHandle" ∧ (parseMethodDescriptor yX7_keyword.desc).map (fun d => d.parameters.length) = some 0) := by decide +kernel
def C_X7_next_b18 (Δ : DT) (v : Nat) (kb0 : ST → Option (ST)) (σ : ST) : Option (ST) :=
  lt1 (sI σ 24 v 0 1 ((gI σ 24 v 0 1) + 1)) (fun σ_1 => kb0 σ_1)
theorem w_C_X7_next_b18 {adK adV : Nat → Nat} {e0 : Nat} {Δ : DT} {v : Nat} (X : FX p m c meth s args RX7 cX7_next 1 none) (K : XK D d A s) (hE : (ES adK adV e0) A s) {z : ST} (hk : okC Δ 24 v 0 = true) {kb0 : ST → Option (ST)} (hkb0 : ∀ (σ : ST) (ls : Array Slot) (H : Heap) (locs : List Loc), XH D A s.heap (hC hs) (xct (LC Δ) (okC Δ) (hC hs) d σ) H locs → lv_has ls 1 [(0, .ref ((hC hs) 24 v 0))] → kb0 σ  = some z → W p l e (rmD 7 0 0) s m args below meth c H locs 0 0 (MQ below (Qv D (pu z) (cw (hC hs) (LC Δ) (okC Δ) d) A) args s 0 0 A) (F0 m 0 ls [])) (σ : ST) (ls : Array Slot) (H : Heap) (locs : List Loc) (O : XH D A s.heap (hC hs) (xct (LC Δ) (okC Δ) (hC hs) d σ) H locs) (hl : lv_has ls 1 [(0, .ref ((hC hs) 24 v 0))]) (hf : C_X7_next_b18 Δ v kb0 σ = some z) : W p l e (rmD 7 0 0) s m args below meth c H locs 0 0 (MQ below (Qv D (pu z) (cw (hC hs) (LC Δ) (okC Δ) d) A) args s 0 0 A) (F0 m 18 ls []) := by
  have hx := X.1.1; have hb := X.1.2.1
  rw [C_X7_next_b18] at hf
  refine lv_aload_n hx hb dX7_next_18 rfl (lv_at hl 0 rfl) ?_
  refine lv_dup hx hb dX7_next_19 rfl ?_
  refine x_gI X K O 1 hk LC_24 rfl rfl in_X7 (by decide) q459 dX7_next_20 ?_
  refine lv_iconst (v := 1) hx hb dX7_next_23 (by decide) ?_
  refine lv_iadd hx hb dX7_next_24 ?_
  obtain ⟨σ_1, eσ_1, hf⟩ := lt1_s hf
  refine x_pI X K O 1 hk LC_24 rfl rfl in_X7 tyX7_ok nmX7 (by decide) q459 rfl rfl rfl dX7_next_25 (fun H locs O => ?_)
  rw [← eσ_1] at O
  refine lv_goto (tgt := 0) hx hb dX7_next_28 (by decide) ?_
  exact hkb0 _ ls _ _ O (lv_sub hl [0] rfl) hf
def C_X7_next_b202 (Δ : DT) (v : Nat) (σ : ST) (s1 : Int32) : Option (ST) :=
  lt1 (sI σ 24 v 0 3 s1) (fun σ_1 => lt1 (sI σ_1 24 v 0 1 ((gI σ_1 24 v 0 1) + 1)) (fun σ_2 => some σ_2))
theorem w_C_X7_next_b202 {adK adV : Nat → Nat} {e0 : Nat} {Δ : DT} {v : Nat} (X : FX p m c meth s args RX7 cX7_next 1 none) (K : XK D d A s) (hE : (ES adK adV e0) A s) {z : ST} (hk : okC Δ 24 v 0 = true) (σ : ST) (s1 : Int32) (ls : Array Slot) (H : Heap) (locs : List Loc) (O : XH D A s.heap (hC hs) (xct (LC Δ) (okC Δ) (hC hs) d σ) H locs) (hl : lv_has ls 1 [(0, .ref ((hC hs) 24 v 0))]) (hf : C_X7_next_b202 Δ v σ s1 = some z) : W p l e (rmD 7 0 0) s m args below meth c H locs 0 0 (MQ below (Qv D (pu z) (cw (hC hs) (LC Δ) (okC Δ) d) A) args s 0 0 A) (F0 m 202 ls [.int s1, .ref ((hC hs) 24 v 0)]) := by
  have hx := X.1.1; have hb := X.1.2.1
  rw [C_X7_next_b202] at hf
  obtain ⟨σ_1, eσ_1, hf⟩ := lt1_s hf
  refine x_pI X K O 3 hk LC_24 rfl rfl in_X7 tyX7_ok nmX7 (by decide) q461 rfl rfl rfl dX7_next_202 (fun H locs O => ?_)
  rw [← eσ_1] at O
  refine lv_aload_n hx hb dX7_next_205 rfl (lv_at hl 0 rfl) ?_
  refine lv_dup hx hb dX7_next_206 rfl ?_
  refine x_gI X K O 1 hk LC_24 rfl rfl in_X7 (by decide) q459 dX7_next_207 ?_
  refine lv_iconst (v := 1) hx hb dX7_next_210 (by decide) ?_
  refine lv_iadd hx hb dX7_next_211 ?_
  obtain ⟨σ_2, eσ_2, hf⟩ := lt1_s hf
  refine x_pI X K O 1 hk LC_24 rfl rfl in_X7 tyX7_ok nmX7 (by decide) q459 rfl rfl rfl dX7_next_212 (fun H locs O => ?_)
  rw [← eσ_2] at O
  exact x_vret X O rfl _ (Option.some.inj hf).symm rfl dX7_next_215
def C_X7_next_b176 (Δ : DT) (v : Nat) (σ : ST) (s1 : Int32) : Option (ST) :=
  lt1 (sI σ 24 v 0 3 s1) (fun σ_1 => some σ_1)
theorem w_C_X7_next_b176 {adK adV : Nat → Nat} {e0 : Nat} {Δ : DT} {v : Nat} (X : FX p m c meth s args RX7 cX7_next 1 none) (K : XK D d A s) (hE : (ES adK adV e0) A s) {z : ST} (hk : okC Δ 24 v 0 = true) (σ : ST) (s1 : Int32) (ls : Array Slot) (H : Heap) (locs : List Loc) (O : XH D A s.heap (hC hs) (xct (LC Δ) (okC Δ) (hC hs) d σ) H locs) (hl : lv_has ls 1 []) (hf : C_X7_next_b176 Δ v σ s1 = some z) : W p l e (rmD 7 0 0) s m args below meth c H locs 0 0 (MQ below (Qv D (pu z) (cw (hC hs) (LC Δ) (okC Δ) d) A) args s 0 0 A) (F0 m 176 ls [.int s1, .ref ((hC hs) 24 v 0)]) := by
  have hx := X.1.1; have hb := X.1.2.1
  rw [C_X7_next_b176] at hf
  obtain ⟨σ_1, eσ_1, hf⟩ := lt1_s hf
  refine x_pI X K O 3 hk LC_24 rfl rfl in_X7 tyX7_ok nmX7 (by decide) q461 rfl rfl rfl dX7_next_176 (fun H locs O => ?_)
  rw [← eσ_1] at O
  refine lv_goto (tgt := 215) hx hb dX7_next_179 (by decide) ?_
  exact x_vret X O rfl _ (Option.some.inj hf).symm rfl dX7_next_215
def C_X7_next_b144 (Δ : DT) (v : Nat) (kb105 : ST → Option (ST)) (σ : ST) : Option (ST) :=
  lt1 (sI σ 24 v 0 1 ((gI σ 24 v 0 1) + 1)) (fun σ_1 => kb105 σ_1)
theorem w_C_X7_next_b144 {adK adV : Nat → Nat} {e0 : Nat} {Δ : DT} {v : Nat} (X : FX p m c meth s args RX7 cX7_next 1 none) (K : XK D d A s) (hE : (ES adK adV e0) A s) {z : ST} (hk : okC Δ 24 v 0 = true) {kb105 : ST → Option (ST)} (hkb105 : ∀ (σ : ST) (ls : Array Slot) (H : Heap) (locs : List Loc), XH D A s.heap (hC hs) (xct (LC Δ) (okC Δ) (hC hs) d σ) H locs → lv_has ls 1 [(0, .ref ((hC hs) 24 v 0))] → kb105 σ  = some z → W p l e (rmD 7 0 0) s m args below meth c H locs 0 0 (MQ below (Qv D (pu z) (cw (hC hs) (LC Δ) (okC Δ) d) A) args s 0 0 A) (F0 m 105 ls [])) (σ : ST) (ls : Array Slot) (H : Heap) (locs : List Loc) (O : XH D A s.heap (hC hs) (xct (LC Δ) (okC Δ) (hC hs) d σ) H locs) (hl : lv_has ls 1 [(0, .ref ((hC hs) 24 v 0))]) (hf : C_X7_next_b144 Δ v kb105 σ = some z) : W p l e (rmD 7 0 0) s m args below meth c H locs 0 0 (MQ below (Qv D (pu z) (cw (hC hs) (LC Δ) (okC Δ) d) A) args s 0 0 A) (F0 m 144 ls []) := by
  have hx := X.1.1; have hb := X.1.2.1
  rw [C_X7_next_b144] at hf
  refine lv_aload_n hx hb dX7_next_144 rfl (lv_at hl 0 rfl) ?_
  refine lv_dup hx hb dX7_next_145 rfl ?_
  refine x_gI X K O 1 hk LC_24 rfl rfl in_X7 (by decide) q459 dX7_next_146 ?_
  refine lv_iconst (v := 1) hx hb dX7_next_149 (by decide) ?_
  refine lv_iadd hx hb dX7_next_150 ?_
  obtain ⟨σ_1, eσ_1, hf⟩ := lt1_s hf
  refine x_pI X K O 1 hk LC_24 rfl rfl in_X7 tyX7_ok nmX7 (by decide) q459 rfl rfl rfl dX7_next_151 (fun H locs O => ?_)
  rw [← eσ_1] at O
  refine lv_goto (tgt := 105) hx hb dX7_next_154 (by decide) ?_
  exact hkb105 _ ls _ _ O (lv_sub hl [0] rfl) hf
def C_X7_next_b105 (Δ : DT) (v : Nat) : Nat → ST → Option (ST)
  | 0, _ => none
  | n + 1, σ =>
    bn2 (C_X7_isDigit Δ v σ) (fun σ_1 r_2 => (if r_2 = 0 then (if 5 ≤ ((gI σ_1 24 v 0 1) - (gI σ_1 24 v 0 2)) then C_X7_next_b176 Δ v σ_1 1 else C_X7_next_b176 Δ v σ_1 2) else (if ((gI σ_1 24 v 0 2) + 4) ≤ (gI σ_1 24 v 0 1) then C_X7_next_b144 Δ v (C_X7_next_b105 Δ v n) σ_1 else bn2 (C_X7_see Δ v σ_1) (fun σ_6 r_7 => lt1 (sI σ_6 24 v 0 4 (((10 * (gI σ_1 24 v 0 4)) + r_7) - 48)) (fun σ_8 => C_X7_next_b144 Δ v (C_X7_next_b105 Δ v n) σ_8)))))
theorem w_C_X7_next_b105 {adK adV : Nat → Nat} {e0 : Nat} {Δ : DT} {v : Nat} (X : FX p m c meth s args RX7 cX7_next 1 none) (K : XK D d A s) (hE : (ES adK adV e0) A s) {z : ST} (hk : okC Δ 24 v 0 = true) : ∀ (n : Nat) (σ : ST) (ls : Array Slot) (H : Heap) (locs : List Loc), XH D A s.heap (hC hs) (xct (LC Δ) (okC Δ) (hC hs) d σ) H locs → lv_has ls 1 [(0, .ref ((hC hs) 24 v 0))] → C_X7_next_b105 Δ v n σ = some z → W p l e (rmD 7 0 0) s m args below meth c H locs 0 0 (MQ below (Qv D (pu z) (cw (hC hs) (LC Δ) (okC Δ) d) A) args s 0 0 A) (F0 m 105 ls []) := by
  have hx := X.1.1; have hb := X.1.2.1
  intro n
  induction n with
  | zero =>
    intro σ ls H locs O hl hf
    exact absurd hf (fun q => by cases q)
  | succ n ih =>
    intro σ ls H locs O hl hf
    rw [C_X7_next_b105] at hf
    refine lv_aload_n hx hb dX7_next_105 rfl (lv_at hl 0 rfl) ?_
    obtain ⟨σ_1, r_2, hg, hf⟩ := bn2_s hf
    refine x_calli (x_runV (As := []) (rest := []) X K O (xct_obj hk LC_24) rfl (m_C_X7_isDigit hk hg) ES_b (ES_h hE) (lw_V q585 q587 qs11 q125 q588) 0 rfl hl.1 (Nat.le_of_ble_eq_true rfl) hdV_X7_isDigit ⟨by decide, by decide⟩ ⟨Nat.le_refl _, Nat.le_refl _⟩ dX7_next_106) (fun r u H locs hp O _ => ?_)
    cases hp
    have O : XH D A s.heap (hC hs) (xct (LC Δ) (okC Δ) (hC hs) d σ_1) H locs := O
    refine lv_if_eq (tgt := 157) hx hb dX7_next_109 (by decide) (fun c_3 => ?_) (fun c_3 => ?_)
    · replace hf := if_t c_3 hf
      refine lv_aload_n hx hb dX7_next_157 rfl (lv_at hl 0 rfl) ?_
      refine lv_aload_n hx hb dX7_next_158 rfl (lv_at hl 0 rfl) ?_
      refine x_gI X K O 1 hk LC_24 rfl rfl in_X7 (by decide) q459 dX7_next_159 ?_
      refine lv_aload_n hx hb dX7_next_162 rfl (lv_at hl 0 rfl) ?_
      refine x_gI X K O 2 hk LC_24 rfl rfl in_X7 (by decide) q460 dX7_next_163 ?_
      refine lv_isub hx hb dX7_next_166 ?_
      refine lv_iconst (v := 5) hx hb dX7_next_167 (by decide) ?_
      refine lv_icmp_ge (tgt := 175) hx hb dX7_next_168 (by decide) (fun c_4 => ?_) (fun c_4 => ?_)
      · replace hf := if_t c_4 hf
        refine lv_iconst (v := 1) hx hb dX7_next_175 (by decide) ?_
        exact w_C_X7_next_b176 X K hE hk _ _ ls _ _ O (lv_sub hl [] rfl) hf
      · replace hf := if_f c_4 hf
        refine lv_iconst (v := 2) hx hb dX7_next_171 (by decide) ?_
        refine lv_goto (tgt := 176) hx hb dX7_next_172 (by decide) ?_
        exact w_C_X7_next_b176 X K hE hk _ _ ls _ _ O (lv_sub hl [] rfl) hf
    · replace hf := if_f c_3 hf
      refine lv_aload_n hx hb dX7_next_112 rfl (lv_at hl 0 rfl) ?_
      refine x_gI X K O 1 hk LC_24 rfl rfl in_X7 (by decide) q459 dX7_next_113 ?_
      refine lv_aload_n hx hb dX7_next_116 rfl (lv_at hl 0 rfl) ?_
      refine x_gI X K O 2 hk LC_24 rfl rfl in_X7 (by decide) q460 dX7_next_117 ?_
      refine lv_iconst (v := 4) hx hb dX7_next_120 (by decide) ?_
      refine lv_iadd hx hb dX7_next_121 ?_
      refine lv_icmp_ge (tgt := 144) hx hb dX7_next_122 (by decide) (fun c_5 => ?_) (fun c_5 => ?_)
      · replace hf := if_t c_5 hf
        exact w_C_X7_next_b144 X K hE hk ih _ ls _ _ O (lv_sub hl [0] rfl) hf
      · replace hf := if_f c_5 hf
        refine lv_aload_n hx hb dX7_next_125 rfl (lv_at hl 0 rfl) ?_
        refine lv_bipush (v := 10) hx hb dX7_next_126 (by decide) ?_
        refine lv_aload_n hx hb dX7_next_128 rfl (lv_at hl 0 rfl) ?_
        refine x_gI X K O 4 hk LC_24 rfl rfl in_X7 (by decide) q462 dX7_next_129 ?_
        refine lv_imul hx hb dX7_next_132 ?_
        refine lv_aload_n hx hb dX7_next_133 rfl (lv_at hl 0 rfl) ?_
        obtain ⟨σ_6, r_7, hg, hf⟩ := bn2_s hf
        refine x_calli (x_runV (As := []) (rest := [.int (10 * (gI σ_1 24 v 0 4)), .ref ((hC hs) 24 v 0)]) X K O (xct_obj hk LC_24) rfl (m_C_X7_see hk hg) ES_b (ES_h hE) (lw_V q490 q492 qs5 q125 q493) 0 rfl hl.1 (Nat.le_of_ble_eq_true rfl) hdV_X7_see ⟨by decide, by decide⟩ ⟨Nat.le_refl _, Nat.le_refl _⟩ dX7_next_134) (fun r u H locs hp O _ => ?_)
        cases hp
        have O : XH D A s.heap (hC hs) (xct (LC Δ) (okC Δ) (hC hs) d σ_6) H locs := O
        refine lv_iadd hx hb dX7_next_137 ?_
        refine lv_bipush (v := 48) hx hb dX7_next_138 (by decide) ?_
        refine lv_isub hx hb dX7_next_140 ?_
        obtain ⟨σ_8, eσ_8, hf⟩ := lt1_s hf
        refine x_pI X K O 4 hk LC_24 rfl rfl in_X7 tyX7_ok nmX7 (by decide) q462 rfl rfl rfl dX7_next_141 (fun H locs O => ?_)
        rw [← eσ_8] at O
        exact w_C_X7_next_b144 X K hE hk ih _ ls _ _ O (lv_sub hl [0] rfl) hf
def C_X7_next_b62 (Δ : DT) (v : Nat) : Nat → ST → Option (ST)
  | 0, _ => none
  | n + 1, σ =>
    bn2 (C_X7_isLetter Δ v σ) (fun σ_1 r_2 => (if r_2 = 0 then bn2 (C_X7_keyword Δ v σ_1) (fun σ_4 r_5 => lt1 (sI σ_4 24 v 0 3 r_5) (fun σ_6 => some σ_6)) else lt1 (sI σ_1 24 v 0 1 ((gI σ_1 24 v 0 1) + 1)) (fun σ_7 => (C_X7_next_b62 Δ v n) σ_7)))
theorem w_C_X7_next_b62 {adK adV : Nat → Nat} {e0 : Nat} {Δ : DT} {v : Nat} (X : FX p m c meth s args RX7 cX7_next 1 none) (K : XK D d A s) (hE : (ES adK adV e0) A s) {z : ST} (hk : okC Δ 24 v 0 = true) : ∀ (n : Nat) (σ : ST) (ls : Array Slot) (H : Heap) (locs : List Loc), XH D A s.heap (hC hs) (xct (LC Δ) (okC Δ) (hC hs) d σ) H locs → lv_has ls 1 [(0, .ref ((hC hs) 24 v 0))] → C_X7_next_b62 Δ v n σ = some z → W p l e (rmD 7 0 0) s m args below meth c H locs 0 0 (MQ below (Qv D (pu z) (cw (hC hs) (LC Δ) (okC Δ) d) A) args s 0 0 A) (F0 m 62 ls []) := by
  have hx := X.1.1; have hb := X.1.2.1
  intro n
  induction n with
  | zero =>
    intro σ ls H locs O hl hf
    exact absurd hf (fun q => by cases q)
  | succ n ih =>
    intro σ ls H locs O hl hf
    rw [C_X7_next_b62] at hf
    refine lv_aload_n hx hb dX7_next_62 rfl (lv_at hl 0 rfl) ?_
    obtain ⟨σ_1, r_2, hg, hf⟩ := bn2_s hf
    refine x_calli (x_runV (As := []) (rest := []) X K O (xct_obj hk LC_24) rfl (m_C_X7_isLetter hk hg) ES_b (ES_h hE) (lw_V q494 q496 qs6 q125 q497) 0 rfl hl.1 (Nat.le_of_ble_eq_true rfl) hdV_X7_isLetter ⟨by decide, by decide⟩ ⟨Nat.le_refl _, Nat.le_refl _⟩ dX7_next_63) (fun r u H locs hp O _ => ?_)
    cases hp
    have O : XH D A s.heap (hC hs) (xct (LC Δ) (okC Δ) (hC hs) d σ_1) H locs := O
    refine lv_if_eq (tgt := 82) hx hb dX7_next_66 (by decide) (fun c_3 => ?_) (fun c_3 => ?_)
    · replace hf := if_t c_3 hf
      refine lv_aload_n hx hb dX7_next_82 rfl (lv_at hl 0 rfl) ?_
      refine lv_aload_n hx hb dX7_next_83 rfl (lv_at hl 0 rfl) ?_
      obtain ⟨σ_4, r_5, hg, hf⟩ := bn2_s hf
      refine x_calli (x_runV (As := []) (rest := [.ref ((hC hs) 24 v 0)]) X K O (xct_obj hk LC_24) rfl (m_C_X7_keyword hk hg) ES_b (ES_h hE) (lw_V q499 q501 qs7 q125 q502) 0 rfl hl.1 (Nat.le_of_ble_eq_true rfl) hdV_X7_keyword ⟨by decide, by decide⟩ ⟨Nat.le_refl _, Nat.le_refl _⟩ dX7_next_84) (fun r u H locs hp O _ => ?_)
      cases hp
      have O : XH D A s.heap (hC hs) (xct (LC Δ) (okC Δ) (hC hs) d σ_4) H locs := O
      obtain ⟨σ_6, eσ_6, hf⟩ := lt1_s hf
      refine x_pI X K O 3 hk LC_24 rfl rfl in_X7 tyX7_ok nmX7 (by decide) q461 rfl rfl rfl dX7_next_87 (fun H locs O => ?_)
      rw [← eσ_6] at O
      refine lv_goto (tgt := 215) hx hb dX7_next_90 (by decide) ?_
      exact x_vret X O rfl _ (Option.some.inj hf).symm rfl dX7_next_215
    · replace hf := if_f c_3 hf
      refine lv_aload_n hx hb dX7_next_69 rfl (lv_at hl 0 rfl) ?_
      refine lv_dup hx hb dX7_next_70 rfl ?_
      refine x_gI X K O 1 hk LC_24 rfl rfl in_X7 (by decide) q459 dX7_next_71 ?_
      refine lv_iconst (v := 1) hx hb dX7_next_74 (by decide) ?_
      refine lv_iadd hx hb dX7_next_75 ?_
      obtain ⟨σ_7, eσ_7, hf⟩ := lt1_s hf
      refine x_pI X K O 1 hk LC_24 rfl rfl in_X7 tyX7_ok nmX7 (by decide) q459 rfl rfl rfl dX7_next_76 (fun H locs O => ?_)
      rw [← eσ_7] at O
      refine lv_goto (tgt := 62) hx hb dX7_next_79 (by decide) ?_
      exact ih _ ls _ _ O (lv_sub hl [0] rfl) hf
def C_X7_next_b0 (Δ : DT) (v : Nat) : Nat → ST → Option (ST)
  | 0, _ => none
  | n + 1, σ =>
    bn2 (C_X7_see Δ v σ) (fun σ_1 r_2 => (if r_2 = 32 then C_X7_next_b18 Δ v (C_X7_next_b0 Δ v n) σ_1 else bn2 (C_X7_see Δ v σ_1) (fun σ_4 r_5 => (if r_5 = 10 then C_X7_next_b18 Δ v (C_X7_next_b0 Δ v n) σ_4 else lt1 (sI σ_4 24 v 0 2 (gI σ_4 24 v 0 1)) (fun σ_7 => bn2 (C_X7_see Δ v σ_7) (fun σ_8 r_9 => (if r_9 = (-1) then lt1 (sI σ_8 24 v 0 3 0) (fun σ_25 => some σ_25) else bn2 (C_X7_isLetter Δ v σ_8) (fun σ_11 r_12 => (if r_12 = 0 then bn2 (C_X7_isDigit Δ v σ_11) (fun σ_14 r_15 => (if r_15 = 0 then bn2 (C_X7_see Δ v σ_14) (fun σ_17 r_18 => bn2 (C_X7_isMark Δ v σ_17 r_18) (fun σ_19 r_20 => (if r_20 = 0 then C_X7_next_b202 Δ v σ_19 1 else bn2 (C_X7_see Δ v σ_19) (fun σ_22 r_23 => C_X7_next_b202 Δ v σ_22 r_23)))) else lt1 (sI σ_14 24 v 0 4 0) (fun σ_24 => C_X7_next_b105 Δ v FUEL σ_24))) else C_X7_next_b62 Δ v FUEL σ_11)))))))))
theorem w_C_X7_next_b0 {adK adV : Nat → Nat} {e0 : Nat} {Δ : DT} {v : Nat} (X : FX p m c meth s args RX7 cX7_next 1 none) (K : XK D d A s) (hE : (ES adK adV e0) A s) {z : ST} (hk : okC Δ 24 v 0 = true) : ∀ (n : Nat) (σ : ST) (ls : Array Slot) (H : Heap) (locs : List Loc), XH D A s.heap (hC hs) (xct (LC Δ) (okC Δ) (hC hs) d σ) H locs → lv_has ls 1 [(0, .ref ((hC hs) 24 v 0))] → C_X7_next_b0 Δ v n σ = some z → W p l e (rmD 7 0 0) s m args below meth c H locs 0 0 (MQ below (Qv D (pu z) (cw (hC hs) (LC Δ) (okC Δ) d) A) args s 0 0 A) (F0 m 0 ls []) := by
  have hx := X.1.1; have hb := X.1.2.1
  intro n
  induction n with
  | zero =>
    intro σ ls H locs O hl hf
    exact absurd hf (fun q => by cases q)
  | succ n ih =>
    intro σ ls H locs O hl hf
    rw [C_X7_next_b0] at hf
    refine lv_aload_n hx hb dX7_next_0 rfl (lv_at hl 0 rfl) ?_
    obtain ⟨σ_1, r_2, hg, hf⟩ := bn2_s hf
    refine x_calli (x_runV (As := []) (rest := []) X K O (xct_obj hk LC_24) rfl (m_C_X7_see hk hg) ES_b (ES_h hE) (lw_V q490 q492 qs5 q125 q493) 0 rfl hl.1 (Nat.le_of_ble_eq_true rfl) hdV_X7_see ⟨by decide, by decide⟩ ⟨Nat.le_refl _, Nat.le_refl _⟩ dX7_next_1) (fun r u H locs hp O _ => ?_)
    cases hp
    have O : XH D A s.heap (hC hs) (xct (LC Δ) (okC Δ) (hC hs) d σ_1) H locs := O
    refine lv_bipush (v := 32) hx hb dX7_next_4 (by decide) ?_
    refine lv_icmp_eq (tgt := 18) hx hb dX7_next_6 (by decide) (fun c_3 => ?_) (fun c_3 => ?_)
    · replace hf := if_t c_3 hf
      exact w_C_X7_next_b18 X K hE hk ih _ ls _ _ O (lv_sub hl [0] rfl) hf
    · replace hf := if_f c_3 hf
      refine lv_aload_n hx hb dX7_next_9 rfl (lv_at hl 0 rfl) ?_
      obtain ⟨σ_4, r_5, hg, hf⟩ := bn2_s hf
      refine x_calli (x_runV (As := []) (rest := []) X K O (xct_obj hk LC_24) rfl (m_C_X7_see hk hg) ES_b (ES_h hE) (lw_V q490 q492 qs5 q125 q493) 0 rfl hl.1 (Nat.le_of_ble_eq_true rfl) hdV_X7_see ⟨by decide, by decide⟩ ⟨Nat.le_refl _, Nat.le_refl _⟩ dX7_next_10) (fun r u H locs hp O _ => ?_)
      cases hp
      have O : XH D A s.heap (hC hs) (xct (LC Δ) (okC Δ) (hC hs) d σ_4) H locs := O
      refine lv_bipush (v := 10) hx hb dX7_next_13 (by decide) ?_
      refine lv_icmp_ne (tgt := 31) hx hb dX7_next_15 (by decide) (fun c_6 => ?_) (fun c_6 => ?_)
      · replace hf := if_f c_6 hf
        refine lv_aload_n hx hb dX7_next_31 rfl (lv_at hl 0 rfl) ?_
        refine lv_aload_n hx hb dX7_next_32 rfl (lv_at hl 0 rfl) ?_
        refine x_gI X K O 1 hk LC_24 rfl rfl in_X7 (by decide) q459 dX7_next_33 ?_
        obtain ⟨σ_7, eσ_7, hf⟩ := lt1_s hf
        refine x_pI X K O 2 hk LC_24 rfl rfl in_X7 tyX7_ok nmX7 (by decide) q460 rfl rfl rfl dX7_next_36 (fun H locs O => ?_)
        rw [← eσ_7] at O
        refine lv_aload_n hx hb dX7_next_39 rfl (lv_at hl 0 rfl) ?_
        obtain ⟨σ_8, r_9, hg, hf⟩ := bn2_s hf
        refine x_calli (x_runV (As := []) (rest := []) X K O (xct_obj hk LC_24) rfl (m_C_X7_see hk hg) ES_b (ES_h hE) (lw_V q490 q492 qs5 q125 q493) 0 rfl hl.1 (Nat.le_of_ble_eq_true rfl) hdV_X7_see ⟨by decide, by decide⟩ ⟨Nat.le_refl _, Nat.le_refl _⟩ dX7_next_40) (fun r u H locs hp O _ => ?_)
        cases hp
        have O : XH D A s.heap (hC hs) (xct (LC Δ) (okC Δ) (hC hs) d σ_8) H locs := O
        refine lv_iconst (v := (-1)) hx hb dX7_next_43 (by decide) ?_
        refine lv_icmp_ne (tgt := 55) hx hb dX7_next_44 (by decide) (fun c_10 => ?_) (fun c_10 => ?_)
        · replace hf := if_f c_10 hf
          refine lv_aload_n hx hb dX7_next_55 rfl (lv_at hl 0 rfl) ?_
          obtain ⟨σ_11, r_12, hg, hf⟩ := bn2_s hf
          refine x_calli (x_runV (As := []) (rest := []) X K O (xct_obj hk LC_24) rfl (m_C_X7_isLetter hk hg) ES_b (ES_h hE) (lw_V q494 q496 qs6 q125 q497) 0 rfl hl.1 (Nat.le_of_ble_eq_true rfl) hdV_X7_isLetter ⟨by decide, by decide⟩ ⟨Nat.le_refl _, Nat.le_refl _⟩ dX7_next_56) (fun r u H locs hp O _ => ?_)
          cases hp
          have O : XH D A s.heap (hC hs) (xct (LC Δ) (okC Δ) (hC hs) d σ_11) H locs := O
          refine lv_if_eq (tgt := 93) hx hb dX7_next_59 (by decide) (fun c_13 => ?_) (fun c_13 => ?_)
          · replace hf := if_t c_13 hf
            refine lv_aload_n hx hb dX7_next_93 rfl (lv_at hl 0 rfl) ?_
            obtain ⟨σ_14, r_15, hg, hf⟩ := bn2_s hf
            refine x_calli (x_runV (As := []) (rest := []) X K O (xct_obj hk LC_24) rfl (m_C_X7_isDigit hk hg) ES_b (ES_h hE) (lw_V q585 q587 qs11 q125 q588) 0 rfl hl.1 (Nat.le_of_ble_eq_true rfl) hdV_X7_isDigit ⟨by decide, by decide⟩ ⟨Nat.le_refl _, Nat.le_refl _⟩ dX7_next_94) (fun r u H locs hp O _ => ?_)
            cases hp
            have O : XH D A s.heap (hC hs) (xct (LC Δ) (okC Δ) (hC hs) d σ_14) H locs := O
            refine lv_if_eq (tgt := 182) hx hb dX7_next_97 (by decide) (fun c_16 => ?_) (fun c_16 => ?_)
            · replace hf := if_t c_16 hf
              refine lv_aload_n hx hb dX7_next_182 rfl (lv_at hl 0 rfl) ?_
              refine lv_aload_n hx hb dX7_next_183 rfl (lv_at hl 0 rfl) ?_
              refine lv_aload_n hx hb dX7_next_184 rfl (lv_at hl 0 rfl) ?_
              obtain ⟨σ_17, r_18, hg, hf⟩ := bn2_s hf
              refine x_calli (x_runV (As := []) (rest := [.ref ((hC hs) 24 v 0), .ref ((hC hs) 24 v 0)]) X K O (xct_obj hk LC_24) rfl (m_C_X7_see hk hg) ES_b (ES_h hE) (lw_V q490 q492 qs5 q125 q493) 0 rfl hl.1 (Nat.le_of_ble_eq_true rfl) hdV_X7_see ⟨by decide, by decide⟩ ⟨Nat.le_refl _, Nat.le_refl _⟩ dX7_next_185) (fun r u H locs hp O _ => ?_)
              cases hp
              have O : XH D A s.heap (hC hs) (xct (LC Δ) (okC Δ) (hC hs) d σ_17) H locs := O
              obtain ⟨σ_19, r_20, hg, hf⟩ := bn2_s hf
              refine x_calli (x_runV (As := [.int r_18]) (rest := [.ref ((hC hs) 24 v 0)]) X K O (xct_obj hk LC_24) rfl (m_C_X7_isMark hk hg) ES_b (ES_h hE) (lw_V q589 q591 qs12 q125 q592) 1 rfl hl.1 (Nat.le_of_ble_eq_true rfl) hdV_X7_isMark ⟨by decide, by decide⟩ ⟨Nat.le_refl _, Nat.le_refl _⟩ dX7_next_188) (fun r u H locs hp O _ => ?_)
              cases hp
              have O : XH D A s.heap (hC hs) (xct (LC Δ) (okC Δ) (hC hs) d σ_19) H locs := O
              refine lv_if_eq (tgt := 201) hx hb dX7_next_191 (by decide) (fun c_21 => ?_) (fun c_21 => ?_)
              · replace hf := if_t c_21 hf
                refine lv_iconst (v := 1) hx hb dX7_next_201 (by decide) ?_
                exact w_C_X7_next_b202 X K hE hk _ _ ls _ _ O (lv_sub hl [0] rfl) hf
              · replace hf := if_f c_21 hf
                refine lv_aload_n hx hb dX7_next_194 rfl (lv_at hl 0 rfl) ?_
                obtain ⟨σ_22, r_23, hg, hf⟩ := bn2_s hf
                refine x_calli (x_runV (As := []) (rest := [.ref ((hC hs) 24 v 0)]) X K O (xct_obj hk LC_24) rfl (m_C_X7_see hk hg) ES_b (ES_h hE) (lw_V q490 q492 qs5 q125 q493) 0 rfl hl.1 (Nat.le_of_ble_eq_true rfl) hdV_X7_see ⟨by decide, by decide⟩ ⟨Nat.le_refl _, Nat.le_refl _⟩ dX7_next_195) (fun r u H locs hp O _ => ?_)
                cases hp
                have O : XH D A s.heap (hC hs) (xct (LC Δ) (okC Δ) (hC hs) d σ_22) H locs := O
                refine lv_goto (tgt := 202) hx hb dX7_next_198 (by decide) ?_
                exact w_C_X7_next_b202 X K hE hk _ _ ls _ _ O (lv_sub hl [0] rfl) hf
            · replace hf := if_f c_16 hf
              refine lv_aload_n hx hb dX7_next_100 rfl (lv_at hl 0 rfl) ?_
              refine lv_iconst (v := 0) hx hb dX7_next_101 (by decide) ?_
              obtain ⟨σ_24, eσ_24, hf⟩ := lt1_s hf
              refine x_pI X K O 4 hk LC_24 rfl rfl in_X7 tyX7_ok nmX7 (by decide) q462 rfl rfl rfl dX7_next_102 (fun H locs O => ?_)
              rw [← eσ_24] at O
              exact w_C_X7_next_b105 X K hE hk _ _ ls _ _ O (lv_sub hl [0] rfl) hf
          · replace hf := if_f c_13 hf
            exact w_C_X7_next_b62 X K hE hk _ _ ls _ _ O (lv_sub hl [0] rfl) hf
        · replace hf := if_t c_10 hf
          refine lv_aload_n hx hb dX7_next_47 rfl (lv_at hl 0 rfl) ?_
          refine lv_iconst (v := 0) hx hb dX7_next_48 (by decide) ?_
          obtain ⟨σ_25, eσ_25, hf⟩ := lt1_s hf
          refine x_pI X K O 3 hk LC_24 rfl rfl in_X7 tyX7_ok nmX7 (by decide) q461 rfl rfl rfl dX7_next_49 (fun H locs O => ?_)
          rw [← eσ_25] at O
          refine lv_goto (tgt := 215) hx hb dX7_next_52 (by decide) ?_
          exact x_vret X O rfl _ (Option.some.inj hf).symm rfl dX7_next_215
      · replace hf := if_t c_6 hf
        exact w_C_X7_next_b18 X K hE hk ih _ ls _ _ O (lv_sub hl [0] rfl) hf
def C_X7_next (Δ : DT) (v : Nat) (σ : ST) : Option (ST) :=
  C_X7_next_b0 Δ v FUEL σ
theorem m_C_X7_next {l : Launch} {D : va_G} {d : Nat → ClassId} {hs : IX} {adK adV : Nat → Nat} {e0 : Nat} {Δ : DT} {v : Nat} {σ : ST} {z : ST} (hk : okC Δ 24 v 0 = true) (hf : C_X7_next Δ v σ = some z) : XM l D d (ES adK adV e0) yX7_next cX7_next 1 none 7 0 0 [.ref ((hC hs) 24 v 0)] (hC hs) (xct (LC Δ) (okC Δ) (hC hs) d σ) (Qv D (pu z) (cw (hC hs) (LC Δ) (okC Δ) d)) := by
  refine XM.of (by decide +kernel) (Nat.le_of_ble_eq_true rfl) ?_
  intro p e s m below meth c A ls X _ K hE O hl
  have hl : lv_has ls 1 [(0, .ref ((hC hs) 24 v 0))] := hl
  have hx := X.1.1; have hb := X.1.2.1
  rw [C_X7_next] at hf
  exact w_C_X7_next_b0 X K hE hk _ _ ls _ _ O (lv_sub hl [0] rfl) hf
end CW
