section YW
variable {p : Program} {l : Launch} {e : Env} {s : State} {m : MethodId} {args : Array Value} {below : List Frame} {meth : Method} {c : Code} {D : va_G} {A : Nat → Prop} {hs : IX} {d : Nat → ClassId}

theorem hdV_X7_next : yX7_next.cls = RX7 ∧ (yX7_next.cls ≠ "java/lang/invoke/MethodHandle" ∧ yX7_next.cls ≠ "java/lang/invoke/VarHandle" ∧ (parseMethodDescriptor yX7_next.desc).map (fun d => d.parameters.length) = some 0) := by decide +kernel
def C_X7_must (v : Nat) (u : PS) (p1 : Int32) : Option (RX Unit) :=
  ckm u ((if (gI u.2.2 24 v 0 3) = p1 then bn1 (C_X7_next u.1 v u.2.2) (fun σ_4 => lt1 (pss u σ_4) (fun u_2 => some (.inl (u_2, ())))) else some (.inr (bmp u, 1, gI u.2.2 24 v 0 2))))
theorem m_C_X7_must {l : Launch} {D : va_G} {d : Nat → ClassId} {hs : IX} {adK adV : Nat → Nat} {e0 : Nat} {v : Nat} {p1 : Int32} {u : PS} {z : RX Unit} (htr0 : l.stackTraces = false) (hk : okC u.1 24 v 0 = true) (hf : C_X7_must v u p1 = some z) : YM l D d (ES adK adV e0) yX7_must cX7_must 2 none 8 [.ref ((hC hs) 24 v 0), .int p1] hs u z (Yv D hs d z) := by
  rw [C_X7_must] at hf
  obtain ⟨hm, hf⟩ := ckm_s hf
  refine YM.of2 hm (by decide +kernel) (Nat.le_of_ble_eq_true rfl) ?_
  intro p e s m below meth c A ls X htab K hE O hb hl
  have hl : lv_has ls 2 [(0, .ref ((hC hs) 24 v 0)), (1, .int p1)] := hl
  have hx := X.1.1; have hy := X.1.2.1
  refine lv_aload_n hx hy dX7_must_0 rfl (lv_at hl 0 rfl) ?_
  refine x_gI X K O.1 3 hk LC_24 rfl rfl in_X7 (by decide) q461 dX7_must_1 ?_
  refine lv_iload_n hx hy dX7_must_4 rfl (lv_at hl 1 rfl) ?_
  refine lv_icmp_eq (tgt := 21) hx hy dX7_must_5 (by decide) (fun c_1 => ?_) (fun c_1 => ?_)
  · replace hf := if_t c_1 hf
    refine lv_aload_n hx hy dX7_must_21 rfl (lv_at hl 0 rfl) ?_
    obtain ⟨σ_4, hg, hf⟩ := bn1_s hf
    obtain ⟨u_2, eu_2, hf⟩ := lt1_s hf
    refine x_callv (x_runV (As := []) (rest := []) X K O.1 (xct_obj hk LC_24) rfl (m_C_X7_next hk hg) ES_b (ES_h hE) (lw_V q486 q488 qs4 q125 q489) 0 rfl hl.1 (Nat.le_of_ble_eq_true rfl) hdV_X7_next ⟨(by decide), by decide⟩ hb.r dX7_must_22) (fun _ H9 locs9 hp O9 hle => ?_)
    refine W.sz (fun hz => ?_)
    cases hp
    have O := O.call O9 hle hb hz
    rw [← eu_2] at O
    have hb := hb.mv eu_2
    have hk : okC u_2.1 24 v 0 = true := by rw [eu_2]; exact hk
    exact y_vret X O hb rfl (Option.some.inj hf).symm dX7_must_25
  · replace hf := if_f c_1 hf
    exact y_throw2 (k := 1) (ki := 1) X K hE htr0 htab O hb hk hl (kk := 0) rfl rfl (by decide) (Option.some.inj hf).symm dX7_must_8 dX7_must_11 dX7_must_12 dX7_must_13 dX7_must_14 dX7_must_17 dX7_must_20
def C_X7_number (v : Nat) (u : PS) (p1 : Int32) : Option (RX Int32) :=
  ckm u ((if (gI u.2.2 24 v 0 3) = 2 then (if p1 ≤ (gI u.2.2 24 v 0 4) then lt1 (gI u.2.2 24 v 0 4) (fun x2_3 => bn1 (C_X7_next u.1 v u.2.2) (fun σ_6 => lt1 (pss u σ_6) (fun u_4 => some (.inl (u_4, x2_3))))) else some (.inr (bmp u, 2, gI u.2.2 24 v 0 2))) else some (.inr (bmp u, 1, gI u.2.2 24 v 0 2))))
theorem m_C_X7_number {l : Launch} {D : va_G} {d : Nat → ClassId} {hs : IX} {adK adV : Nat → Nat} {e0 : Nat} {v : Nat} {p1 : Int32} {u : PS} {z : RX Int32} (htr0 : l.stackTraces = false) (hk : okC u.1 24 v 0 = true) (hf : C_X7_number v u p1 = some z) : YM l D d (ES adK adV e0) yX7_number cX7_number 3 (some .int) 8 [.ref ((hC hs) 24 v 0), .int p1] hs u z (Yi D hs d z) := by
  rw [C_X7_number] at hf
  obtain ⟨hm, hf⟩ := ckm_s hf
  refine YM.of2 hm (by decide +kernel) (Nat.le_of_ble_eq_true rfl) ?_
  intro p e s m below meth c A ls X htab K hE O hb hl
  have hl : lv_has ls 3 [(0, .ref ((hC hs) 24 v 0)), (1, .int p1)] := hl
  have hx := X.1.1; have hy := X.1.2.1
  refine lv_aload_n hx hy dX7_number_0 rfl (lv_at hl 0 rfl) ?_
  refine x_gI X K O.1 3 hk LC_24 rfl rfl in_X7 (by decide) q461 dX7_number_1 ?_
  refine lv_iconst (v := 2) hx hy dX7_number_4 (by decide) ?_
  refine lv_icmp_eq (tgt := 21) hx hy dX7_number_5 (by decide) (fun c_1 => ?_) (fun c_1 => ?_)
  · replace hf := if_t c_1 hf
    refine lv_aload_n hx hy dX7_number_21 rfl (lv_at hl 0 rfl) ?_
    refine x_gI X K O.1 4 hk LC_24 rfl rfl in_X7 (by decide) q462 dX7_number_22 ?_
    refine lv_iload_n hx hy dX7_number_25 rfl (lv_at hl 1 rfl) ?_
    refine lv_icmp_ge (tgt := 42) hx hy dX7_number_26 (by decide) (fun c_2 => ?_) (fun c_2 => ?_)
    · replace hf := if_t c_2 hf
      refine lv_aload_n hx hy dX7_number_42 rfl (lv_at hl 0 rfl) ?_
      refine x_gI X K O.1 4 hk LC_24 rfl rfl in_X7 (by decide) q462 dX7_number_43 ?_
      obtain ⟨x2_3, ex2_3, hf⟩ := lt1_s hf
      refine x_top (w := .int x2_3) (by rw [ex2_3]) ?_
      refine lv_istore_n (lv' := [(2, .int x2_3), (0, .ref ((hC hs) 24 v 0)), (1, .int p1)]) hx hy dX7_number_46 rfl hl (by decide) rfl (fun ls hl => ?_)
      refine lv_aload_n hx hy dX7_number_47 rfl (lv_at hl 1 rfl) ?_
      obtain ⟨σ_6, hg, hf⟩ := bn1_s hf
      obtain ⟨u_4, eu_4, hf⟩ := lt1_s hf
      refine x_callv (x_runV (As := []) (rest := []) X K O.1 (xct_obj hk LC_24) rfl (m_C_X7_next hk hg) ES_b (ES_h hE) (lw_V q486 q488 qs4 q125 q489) 0 rfl hl.1 (Nat.le_of_ble_eq_true rfl) hdV_X7_next ⟨(by decide), by decide⟩ hb.r dX7_number_48) (fun _ H9 locs9 hp O9 hle => ?_)
      refine W.sz (fun hz => ?_)
      cases hp
      have O := O.call O9 hle hb hz
      rw [← eu_4] at O
      have hb := hb.mv eu_4
      have hk : okC u_4.1 24 v 0 = true := by rw [eu_4]; exact hk
      refine lv_iload_n hx hy dX7_number_51 rfl (lv_at hl 0 rfl) ?_
      exact y_iret X O hb rfl (Option.some.inj hf).symm dX7_number_52
    · replace hf := if_f c_2 hf
      exact y_throw2 (k := 2) (ki := 2) X K hE htr0 htab O hb hk hl (kk := 0) rfl rfl (by decide) (Option.some.inj hf).symm dX7_number_29 dX7_number_32 dX7_number_33 dX7_number_34 dX7_number_35 dX7_number_38 dX7_number_41
  · replace hf := if_f c_1 hf
    exact y_throw2 (k := 1) (ki := 1) X K hE htr0 htab O hb hk hl (kk := 0) rfl rfl (by decide) (Option.some.inj hf).symm dX7_number_8 dX7_number_11 dX7_number_12 dX7_number_13 dX7_number_14 dX7_number_17 dX7_number_20
def C_X7_opens (v : Nat) (u : PS) : Option (RX Unit) :=
  ckm u ((if (gI u.2.2 24 v 0 5) = 8 then some (.inr (bmp u, 3, gI u.2.2 24 v 0 2)) else lt1 (pss u (sI u.2.2 24 v 0 5 ((gI u.2.2 24 v 0 5) + 1))) (fun u_2 => bn1 (C_X7_next u_2.1 v u_2.2.2) (fun σ_5 => lt1 (pss u_2 σ_5) (fun u_3 => some (.inl (u_3, ())))))))
theorem m_C_X7_opens {l : Launch} {D : va_G} {d : Nat → ClassId} {hs : IX} {adK adV : Nat → Nat} {e0 : Nat} {v : Nat} {u : PS} {z : RX Unit} (htr0 : l.stackTraces = false) (hk : okC u.1 24 v 0 = true) (hf : C_X7_opens v u = some z) : YM l D d (ES adK adV e0) yX7_opens cX7_opens 1 none 8 [.ref ((hC hs) 24 v 0)] hs u z (Yv D hs d z) := by
  rw [C_X7_opens] at hf
  obtain ⟨hm, hf⟩ := ckm_s hf
  refine YM.of2 hm (by decide +kernel) (Nat.le_of_ble_eq_true rfl) ?_
  intro p e s m below meth c A ls X htab K hE O hb hl
  have hl : lv_has ls 1 [(0, .ref ((hC hs) 24 v 0))] := hl
  have hx := X.1.1; have hy := X.1.2.1
  refine lv_aload_n hx hy dX7_opens_0 rfl (lv_at hl 0 rfl) ?_
  refine x_gI X K O.1 5 hk LC_24 rfl rfl in_X7 (by decide) q463 dX7_opens_1 ?_
  refine lv_bipush (v := 8) hx hy dX7_opens_4 (by decide) ?_
  refine lv_icmp_ne (tgt := 22) hx hy dX7_opens_6 (by decide) (fun c_1 => ?_) (fun c_1 => ?_)
  · replace hf := if_f c_1 hf
    refine lv_aload_n hx hy dX7_opens_22 rfl (lv_at hl 0 rfl) ?_
    refine lv_dup hx hy dX7_opens_23 rfl ?_
    refine x_gI X K O.1 5 hk LC_24 rfl rfl in_X7 (by decide) q463 dX7_opens_24 ?_
    refine lv_iconst (v := 1) hx hy dX7_opens_27 (by decide) ?_
    refine lv_iadd hx hy dX7_opens_28 ?_
    obtain ⟨u_2, eu_2, hf⟩ := lt1_s hf
    refine x_pI X K O.1.self 5 hk LC_24 rfl rfl in_X7 tyX7_ok nmX7 (by decide) q463 rfl rfl rfl dX7_opens_29 (fun H9 locs9 O9 => ?_)
    refine W.sz (fun hz => ?_)
    have O := O.put O9 hb hz
    rw [← eu_2] at O
    have hb := hb.mv eu_2
    have hk : okC u_2.1 24 v 0 = true := by rw [eu_2]; exact hk
    refine lv_aload_n hx hy dX7_opens_32 rfl (lv_at hl 0 rfl) ?_
    obtain ⟨σ_5, hg, hf⟩ := bn1_s hf
    obtain ⟨u_3, eu_3, hf⟩ := lt1_s hf
    refine x_callv (x_runV (As := []) (rest := []) X K O.1 (xct_obj hk LC_24) rfl (m_C_X7_next hk hg) ES_b (ES_h hE) (lw_V q486 q488 qs4 q125 q489) 0 rfl hl.1 (Nat.le_of_ble_eq_true rfl) hdV_X7_next ⟨(by decide), by decide⟩ hb.r dX7_opens_33) (fun _ H9 locs9 hp O9 hle => ?_)
    refine W.sz (fun hz => ?_)
    cases hp
    have O := O.call O9 hle hb hz
    rw [← eu_3] at O
    have hb := hb.mv eu_3
    have hk : okC u_3.1 24 v 0 = true := by rw [eu_3]; exact hk
    exact y_vret X O hb rfl (Option.some.inj hf).symm dX7_opens_36
  · replace hf := if_t c_1 hf
    exact y_throw2 (k := 3) (ki := 3) X K hE htr0 htab O hb hk hl (kk := 0) rfl rfl (by decide) (Option.some.inj hf).symm dX7_opens_9 dX7_opens_12 dX7_opens_13 dX7_opens_14 dX7_opens_15 dX7_opens_18 dX7_opens_21
theorem hdV_X7_number : yX7_number.cls = RX7 ∧ (yX7_number.cls ≠ "java/lang/invoke/MethodHandle" ∧ yX7_number.cls ≠ "java/lang/invoke/VarHandle" ∧ (parseMethodDescriptor yX7_number.desc).map (fun d => d.parameters.length) = some 1) := by decide +kernel
def C_X7_unit (v : Nat) (u : PS) : Option (RX Nat) :=
  ckm u ((if (gI u.2.2 24 v 0 3) = 2 then nwx u 23 9 (fun u_13 => bnx u_13 (C_X7_number v u_13 0) (fun u_15 r_16 => ck (okC u_15.1 24 v 0) (ck (decide (u_15.1 23 u.2.1 = some 9)) (lt1 (pss u_15 (C_X11_init u.2.1 u_15.2.2 r_16)) (fun u_17 => some (.inl (u_17, u.2.1))))))) else bn2 (C_X0_isIn u.1 u.2.2 (gI u.2.2 24 v 0 3) 400 414) (fun σ_4 r_3 => lt1 (pss u σ_4) (fun u_2 => (if r_3 = 0 then some (.inr (bmp u_2, 1, gI u_2.2.2 24 v 0 2)) else lt1 ((gI u_2.2.2 24 v 0 3) - 400) (fun x1_6 => bn1 (C_X7_next u_2.1 v u_2.2.2) (fun σ_9 => lt1 (pss u_2 σ_9) (fun u_7 => nwx u_7 23 10 (fun u_10 => lt1 (pss u_10 (C_X12_init u_7.2.1 u_10.2.2 x1_6)) (fun u_12 => some (.inl (u_12, u_7.2.1))))))))))))
theorem m_C_X7_unit {l : Launch} {D : va_G} {d : Nat → ClassId} {hs : IX} {adK adV : Nat → Nat} {e0 : Nat} {v : Nat} {u : PS} {z : RX Nat} (htr0 : l.stackTraces = false) (hk : okC u.1 24 v 0 = true) (hf : C_X7_unit v u = some z) : YM l D d (ES adK adV e0) yX7_unit cX7_unit 2 (some (.object "NotchSticks$Term")) 9 [.ref ((hC hs) 24 v 0)] hs u z (Yr D hs d z) := by
  rw [C_X7_unit] at hf
  obtain ⟨hm, hf⟩ := ckm_s hf
  refine YM.of2 hm (by decide +kernel) (Nat.le_of_ble_eq_true rfl) ?_
  intro p e s m below meth c A ls X htab K hE O hb hl
  have hl : lv_has ls 2 [(0, .ref ((hC hs) 24 v 0))] := hl
  have hx := X.1.1; have hy := X.1.2.1
  refine lv_aload_n hx hy dX7_unit_0 rfl (lv_at hl 0 rfl) ?_
  refine x_gI X K O.1 3 hk LC_24 rfl rfl in_X7 (by decide) q461 dX7_unit_1 ?_
  refine lv_iconst (v := 2) hx hy dX7_unit_4 (by decide) ?_
  refine lv_icmp_ne (tgt := 21) hx hy dX7_unit_5 (by decide) (fun c_1 => ?_) (fun c_1 => ?_)
  · replace hf := if_f c_1 hf
    refine lv_aload_n hx hy dX7_unit_21 rfl (lv_at hl 0 rfl) ?_
    refine x_gI X K O.1 3 hk LC_24 rfl rfl in_X7 (by decide) q461 dX7_unit_22 ?_
    refine lv_sipush (v := 400) hx hy dX7_unit_25 (by decide) ?_
    refine lv_sipush (v := 414) hx hy dX7_unit_28 (by decide) ?_
    obtain ⟨σ_4, r_3, hg, hf⟩ := bn2_s hf
    obtain ⟨u_2, eu_2, hf⟩ := lt1_s hf
    refine x_calli (x_runSN (As := [.int (gI u.2.2 24 v 0 3), .int 400, .int 414]) (rest := []) X K O.1 (m_C_X0_isIn hg) EN_b EN_h q498 q445 q111 q446 3 rfl hl.1 (Nat.le_of_ble_eq_true rfl) hdS_X0_isIn ⟨(by decide), by decide⟩ hb.r dX7_unit_31) (fun r _ H9 locs9 hp O9 hle => ?_)
    refine W.sz (fun hz => ?_)
    cases hp
    have O := O.call O9 hle hb hz
    rw [← eu_2] at O
    have hb := hb.mv eu_2
    have hk : okC u_2.1 24 v 0 = true := by rw [eu_2]; exact hk
    refine lv_if_ne (tgt := 50) hx hy dX7_unit_34 (by decide) (fun c_5 => ?_) (fun c_5 => ?_)
    · replace hf := if_f c_5 hf
      refine lv_aload_n hx hy dX7_unit_50 rfl (lv_at hl 0 rfl) ?_
      refine x_gI X K O.1 3 hk LC_24 rfl rfl in_X7 (by decide) q461 dX7_unit_51 ?_
      refine lv_sipush (v := 400) hx hy dX7_unit_54 (by decide) ?_
      refine lv_isub hx hy dX7_unit_57 ?_
      obtain ⟨x1_6, ex1_6, hf⟩ := lt1_s hf
      refine x_top (w := .int x1_6) (by rw [ex1_6]) ?_
      refine lv_istore_n (lv' := [(1, .int x1_6), (0, .ref ((hC hs) 24 v 0))]) hx hy dX7_unit_58 rfl hl (by decide) rfl (fun ls hl => ?_)
      refine lv_aload_n hx hy dX7_unit_59 rfl (lv_at hl 1 rfl) ?_
      obtain ⟨σ_9, hg, hf⟩ := bn1_s hf
      obtain ⟨u_7, eu_7, hf⟩ := lt1_s hf
      refine x_callv (x_runV (As := []) (rest := []) X K O.1 (xct_obj hk LC_24) rfl (m_C_X7_next hk hg) ES_b (ES_h hE) (lw_V q486 q488 qs4 q125 q489) 0 rfl hl.1 (Nat.le_of_ble_eq_true rfl) hdV_X7_next ⟨(by decide), by decide⟩ hb.r dX7_unit_60) (fun _ H9 locs9 hp O9 hle => ?_)
      refine W.sz (fun hz => ?_)
      cases hp
      have O := O.call O9 hle hb hz
      rw [← eu_7] at O
      have hb := hb.mv eu_7
      have hk : okC u_7.1 24 v 0 = true := by rw [eu_7]; exact hk
      obtain ⟨hm, u_10, eu_10, hf⟩ := nwx_s hf
      refine y_new_X12 X K O hb hm q720 dX7_unit_63 (fun H9 O9 => ?_)
      have hb := (hb.al (N := 1) hm (by decide)).ev eu_10
      have hk : okC u_10.1 24 v 0 = true := by rw [eu_10]; exact okC_al (by decide) hk
      have O := O9
      rw [← eu_10] at O
      have kq_11 : u_10.1 23 u_7.2.1 = some 10 := by rw [eu_10]; exact dup_self
      refine lv_dup hx hy dX7_unit_66 rfl ?_
      refine lv_iload_n hx hy dX7_unit_67 rfl (lv_at hl 0 rfl) ?_
      obtain ⟨u_12, eu_12, hf⟩ := lt1_s hf
      refine x_callv (x_runI (ret' := none) (As := [.int x1_6]) (rest := [.ref ((hC hs) 23 u_7.2.1 0)]) (bb := ((hC hs) 23 u_7.2.1 0)) X K O.1 (m_C_X12_init kq_11) EN_b EN_h q722 q723 q136 q724 rfl 1 rfl hl.1 (Nat.le_of_ble_eq_true rfl) hdS_X12_init ⟨(by decide), by decide⟩ hb.r dX7_unit_68) (fun _ H9 locs9 hp O9 hle => ?_)
      refine W.sz (fun hz => ?_)
      cases hp
      have O := O.call O9 hle hb hz
      rw [← eu_12] at O
      have hb := hb.mv eu_12
      have hk : okC u_12.1 24 v 0 = true := by rw [eu_12]; exact hk
      have kq_11 : u_12.1 23 u_7.2.1 = some 10 := by rw [eu_12]; exact kq_11
      exact y_aret X O hb rfl (Or.inl ⟨_, rfl⟩) (Option.some.inj hf).symm dX7_unit_71
    · replace hf := if_t c_5 hf
      exact y_throw2 (k := 1) (ki := 1) X K hE htr0 htab O hb hk hl (kk := 0) rfl rfl (by decide) (Option.some.inj hf).symm dX7_unit_37 dX7_unit_40 dX7_unit_41 dX7_unit_42 dX7_unit_43 dX7_unit_46 dX7_unit_49
  · replace hf := if_t c_1 hf
    obtain ⟨hm, u_13, eu_13, hf⟩ := nwx_s hf
    refine y_new_X11 X K O hb hm q706 dX7_unit_8 (fun H9 O9 => ?_)
    have hb := (hb.al (N := 1) hm (by decide)).ev eu_13
    have hk : okC u_13.1 24 v 0 = true := by rw [eu_13]; exact okC_al (by decide) hk
    have O := O9
    rw [← eu_13] at O
    have kq_14 : u_13.1 23 u.2.1 = some 9 := by rw [eu_13]; exact dup_self
    refine lv_dup hx hy dX7_unit_11 rfl ?_
    refine lv_aload_n hx hy dX7_unit_12 rfl (lv_at hl 0 rfl) ?_
    refine lv_iconst (v := 0) hx hy dX7_unit_13 (by decide) ?_
    obtain ⟨zz, hg, hm, hX, hf⟩ := bnx_s hf
    refine y_calli htab X.2.2 (y_runV (As := [.int 0]) (rest := [.ref ((hC hs) 23 u.2.1 0), .ref ((hC hs) 23 u.2.1 0)]) X K O (xct_obj hk LC_24) rfl (m_C_X7_number htr0 hk hg) ES_b (ES_h hE) (lw_V q708 q710 qs22 q125 q711) 1 rfl hl.1 (Nat.le_of_ble_eq_true rfl) hdV_X7_number ⟨(by decide), by decide⟩ (hb.cr hm) dX7_unit_14) hX (hb.cr hm) (fun r_16 u_15 H9 locs9 hz O => ?_)
    replace hf := hf _ _ hz
    have hb := hb.cl (u1 := u_15) hm (by rw [hz]; rfl)
    obtain ⟨hk, hf⟩ := ck_s hf
    obtain ⟨kq_14, hf⟩ := ck_s hf
    replace kq_14 := of_decide_eq_true kq_14
    obtain ⟨u_17, eu_17, hf⟩ := lt1_s hf
    refine x_callv (x_runI (ret' := none) (As := [.int r_16]) (rest := [.ref ((hC hs) 23 u.2.1 0)]) (bb := ((hC hs) 23 u.2.1 0)) X K O.1 (m_C_X11_init kq_14) EN_b EN_h q712 q713 q135 q714 rfl 1 rfl hl.1 (Nat.le_of_ble_eq_true rfl) hdS_X11_init ⟨(by decide), by decide⟩ hb.r dX7_unit_17) (fun _ H9 locs9 hp O9 hle => ?_)
    refine W.sz (fun hz => ?_)
    cases hp
    have O := O.call O9 hle hb hz
    rw [← eu_17] at O
    have hb := hb.mv eu_17
    have hk : okC u_17.1 24 v 0 = true := by rw [eu_17]; exact hk
    have kq_14 : u_17.1 23 u.2.1 = some 9 := by rw [eu_17]; exact kq_14
    exact y_aret X O hb rfl (Or.inl ⟨_, rfl⟩) (Option.some.inj hf).symm dX7_unit_20
theorem hdV_X7_unit : yX7_unit.cls = RX7 ∧ (yX7_unit.cls ≠ "java/lang/invoke/MethodHandle" ∧ yX7_unit.cls ≠ "java/lang/invoke/VarHandle" ∧ (parseMethodDescriptor yX7_unit.desc).map (fun d => d.parameters.length) = some 0) := by decide +kernel
def C_X7_product_b63 (v : Nat) (kb5 : PS → Nat → Option (RX Nat)) (u : PS) (s0a : Nat) (s2 : Nat) (s3 : Int32) (s4 : Nat) : Option (RX Nat) :=
  lt1 (pss u (C_X13_init s0a u.2.2 s2 s3 s4)) (fun u_1 => kb5 u_1 s0a)
theorem w_C_X7_product_b63 {adK adV : Nat → Nat} {e0 : Nat} {v : Nat} (X : FX p m c meth s args RX7 cX7_product 3 (some (.object "NotchSticks$Term"))) (K : XK D d A s) (hE : ES adK adV e0 A s) (htr0 : l.stackTraces = false) (htab : ∀ x ∈ c.exceptionTable.toList, False) {z : RX Nat} {kb5 : PS → Nat → Option (RX Nat)} (hkb5 : ∀ (u : PS) (x1 : Nat) (hk : okC u.1 24 v 0 = true) (ls : Array Slot) (H : Heap) (locs : List Loc) (cs sl : Nat), YH D A s.heap hs d u H locs → CB s u (rN z) cs sl → lv_has ls 3 [(0, .ref ((hC hs) 24 v 0)), (1, .ref x1)] → kb5 u x1 = some z → W p l e (rmD 10 (rN z - s.heap.size) (22 * (rN z - s.heap.size))) s m args below meth c H locs cs sl (vy_MQ below (Yr D hs d z A) (YX D hs d z A) args s (rN z - s.heap.size) (22 * (rN z - s.heap.size)) A) (F0 m 5 ls [])) : ∀ (u : PS) (s0a : Nat) (s2 : Nat) (s3 : Int32) (s4 : Nat) (hk : okC u.1 24 v 0 = true) (ks0 : u.1 23 s0a = some 11) (ls : Array Slot) (H : Heap) (locs : List Loc) (cs sl : Nat), YH D A s.heap hs d u H locs → CB s u (rN z) cs sl → lv_has ls 3 [(0, .ref ((hC hs) 24 v 0))] → C_X7_product_b63 v kb5 u s0a s2 s3 s4 = some z → W p l e (rmD 10 (rN z - s.heap.size) (22 * (rN z - s.heap.size))) s m args below meth c H locs cs sl (vy_MQ below (Yr D hs d z A) (YX D hs d z A) args s (rN z - s.heap.size) (22 * (rN z - s.heap.size)) A) (F0 m 63 ls [.ref s4, .int s3, .ref s2, .ref ((hC hs) 23 s0a 0), .ref ((hC hs) 23 s0a 0)]) := by
  have hx := X.1.1; have hy := X.1.2.1
  intro u s0a s2 s3 s4 hk ks0 ls H locs cs sl O hb hl hf
  rw [C_X7_product_b63] at hf
  obtain ⟨u_1, eu_1, hf⟩ := lt1_s hf
  refine x_callv (x_runI (ret' := none) (As := [.ref s2, .int s3, .ref s4]) (rest := [.ref ((hC hs) 23 s0a 0)]) (bb := ((hC hs) 23 s0a 0)) X K O.1 (m_C_X13_init ks0) EN_b EN_h q732 q733 q137 q734 rfl 3 rfl hl.1 (Nat.le_of_ble_eq_true rfl) hdS_X13_init ⟨(by decide), by decide⟩ hb.r dX7_product_63) (fun _ H9 locs9 hp O9 hle => ?_)
  refine W.sz (fun hz => ?_)
  cases hp
  have O := O.call O9 hle hb hz
  rw [← eu_1] at O
  have hb := hb.mv eu_1
  have hk : okC u_1.1 24 v 0 = true := by rw [eu_1]; exact hk
  have ks0 : u_1.1 23 s0a = some 11 := by rw [eu_1]; exact ks0
  refine lv_astore_n (lv' := [(1, .ref ((hC hs) 23 s0a 0)), (0, .ref ((hC hs) 24 v 0))]) hx hy dX7_product_66 rfl hl (by decide) rfl (fun ls hl => ?_)
  refine lv_goto (tgt := 5) hx hy dX7_product_67 (by decide) ?_
  exact hkb5 _ _ hk ls _ _ _ _ O hb (lv_sub hl [1, 0] rfl) hf
def C_X7_product_b23 (v : Nat) (kb5 : PS → Nat → Option (RX Nat)) (u : PS) (x1 : Nat) : Option (RX Nat) :=
  lt1 (gI u.2.2 24 v 0 3) (fun x2_1 => bn1 (C_X7_next u.1 v u.2.2) (fun σ_4 => lt1 (pss u σ_4) (fun u_2 => nwx u_2 23 11 (fun u_5 => (if x2_1 = 47 then nwx u_5 23 9 (fun u_10 => bnx u_10 (C_X7_number v u_10 1) (fun u_12 r_13 => ck (okC u_12.1 24 v 0) (ck (decide (u_12.1 23 u_2.2.1 = some 11)) (ck (decide (u_12.1 23 u_5.2.1 = some 9)) (lt1 (pss u_12 (C_X11_init u_5.2.1 u_12.2.2 r_13)) (fun u_14 => C_X7_product_b63 v kb5 u_14 u_2.2.1 x1 x2_1 u_5.2.1)))))) else bnx u_5 (C_X7_unit v u_5) (fun u_8 r_9 => ck (okC u_8.1 24 v 0) (ck (decide (u_8.1 23 u_2.2.1 = some 11)) (C_X7_product_b63 v kb5 u_8 u_2.2.1 x1 x2_1 r_9))))))))
theorem w_C_X7_product_b23 {adK adV : Nat → Nat} {e0 : Nat} {v : Nat} (X : FX p m c meth s args RX7 cX7_product 3 (some (.object "NotchSticks$Term"))) (K : XK D d A s) (hE : ES adK adV e0 A s) (htr0 : l.stackTraces = false) (htab : ∀ x ∈ c.exceptionTable.toList, False) {z : RX Nat} {kb5 : PS → Nat → Option (RX Nat)} (hkb5 : ∀ (u : PS) (x1 : Nat) (hk : okC u.1 24 v 0 = true) (ls : Array Slot) (H : Heap) (locs : List Loc) (cs sl : Nat), YH D A s.heap hs d u H locs → CB s u (rN z) cs sl → lv_has ls 3 [(0, .ref ((hC hs) 24 v 0)), (1, .ref x1)] → kb5 u x1 = some z → W p l e (rmD 10 (rN z - s.heap.size) (22 * (rN z - s.heap.size))) s m args below meth c H locs cs sl (vy_MQ below (Yr D hs d z A) (YX D hs d z A) args s (rN z - s.heap.size) (22 * (rN z - s.heap.size)) A) (F0 m 5 ls [])) : ∀ (u : PS) (x1 : Nat) (hk : okC u.1 24 v 0 = true) (ls : Array Slot) (H : Heap) (locs : List Loc) (cs sl : Nat), YH D A s.heap hs d u H locs → CB s u (rN z) cs sl → lv_has ls 3 [(0, .ref ((hC hs) 24 v 0)), (1, .ref x1)] → C_X7_product_b23 v kb5 u x1 = some z → W p l e (rmD 10 (rN z - s.heap.size) (22 * (rN z - s.heap.size))) s m args below meth c H locs cs sl (vy_MQ below (Yr D hs d z A) (YX D hs d z A) args s (rN z - s.heap.size) (22 * (rN z - s.heap.size)) A) (F0 m 23 ls []) := by
  have hx := X.1.1; have hy := X.1.2.1
  intro u x1 hk ls H locs cs sl O hb hl hf
  rw [C_X7_product_b23] at hf
  refine lv_aload_n hx hy dX7_product_23 rfl (lv_at hl 0 rfl) ?_
  refine x_gI X K O.1 3 hk LC_24 rfl rfl in_X7 (by decide) q461 dX7_product_24 ?_
  obtain ⟨x2_1, ex2_1, hf⟩ := lt1_s hf
  refine x_top (w := .int x2_1) (by rw [ex2_1]) ?_
  refine lv_istore_n (lv' := [(2, .int x2_1), (0, .ref ((hC hs) 24 v 0)), (1, .ref x1)]) hx hy dX7_product_27 rfl hl (by decide) rfl (fun ls hl => ?_)
  refine lv_aload_n hx hy dX7_product_28 rfl (lv_at hl 1 rfl) ?_
  obtain ⟨σ_4, hg, hf⟩ := bn1_s hf
  obtain ⟨u_2, eu_2, hf⟩ := lt1_s hf
  refine x_callv (x_runV (As := []) (rest := []) X K O.1 (xct_obj hk LC_24) rfl (m_C_X7_next hk hg) ES_b (ES_h hE) (lw_V q486 q488 qs4 q125 q489) 0 rfl hl.1 (Nat.le_of_ble_eq_true rfl) hdV_X7_next ⟨(by decide), by decide⟩ hb.r dX7_product_29) (fun _ H9 locs9 hp O9 hle => ?_)
  refine W.sz (fun hz => ?_)
  cases hp
  have O := O.call O9 hle hb hz
  rw [← eu_2] at O
  have hb := hb.mv eu_2
  have hk : okC u_2.1 24 v 0 = true := by rw [eu_2]; exact hk
  obtain ⟨hm, u_5, eu_5, hf⟩ := nwx_s hf
  refine y_new_X13 X K O hb hm q730 dX7_product_32 (fun H9 O9 => ?_)
  have hb := (hb.al (N := 3) hm (by decide)).ev eu_5
  have hk : okC u_5.1 24 v 0 = true := by rw [eu_5]; exact okC_al (by decide) hk
  have O := O9
  rw [← eu_5] at O
  have kq_6 : u_5.1 23 u_2.2.1 = some 11 := by rw [eu_5]; exact dup_self
  refine lv_dup hx hy dX7_product_35 rfl ?_
  refine lv_aload_n hx hy dX7_product_36 rfl (lv_at hl 2 rfl) ?_
  refine lv_iload_n hx hy dX7_product_37 rfl (lv_at hl 0 rfl) ?_
  refine lv_iload_n hx hy dX7_product_38 rfl (lv_at hl 0 rfl) ?_
  refine lv_bipush (v := 47) hx hy dX7_product_39 (by decide) ?_
  refine lv_icmp_ne (tgt := 59) hx hy dX7_product_41 (by decide) (fun c_7 => ?_) (fun c_7 => ?_)
  · replace hf := if_f c_7 hf
    refine lv_aload_n hx hy dX7_product_59 rfl (lv_at hl 1 rfl) ?_
    obtain ⟨zz, hg, hm, hX, hf⟩ := bnx_s hf
    refine y_callr htab X.2.2 (y_runV (As := []) (rest := [.int x2_1, .ref x1, .ref ((hC hs) 23 u_2.2.1 0), .ref ((hC hs) 23 u_2.2.1 0)]) X K O (xct_obj hk LC_24) rfl (m_C_X7_unit htr0 hk hg) ES_b (ES_h hE) (lw_V q702 q704 qs21 q125 q705) 0 rfl hl.1 (Nat.le_of_ble_eq_true rfl) hdV_X7_unit ⟨(by decide), by decide⟩ (hb.cr hm) dX7_product_60) hX (hb.cr hm) (fun r_9 u_8 H9 locs9 hz O => ?_)
    replace hf := hf _ _ hz
    have hb := hb.cl (u1 := u_8) hm (by rw [hz]; rfl)
    obtain ⟨hk, hf⟩ := ck_s hf
    obtain ⟨kq_6, hf⟩ := ck_s hf
    replace kq_6 := of_decide_eq_true kq_6
    exact w_C_X7_product_b63 X K hE htr0 htab hkb5 _ _ _ _ _ hk kq_6 ls _ _ _ _ O hb (lv_sub hl [1] rfl) hf
  · replace hf := if_t c_7 hf
    obtain ⟨hm, u_10, eu_10, hf⟩ := nwx_s hf
    refine y_new_X11 X K O hb hm q706 dX7_product_44 (fun H9 O9 => ?_)
    have hb := (hb.al (N := 1) hm (by decide)).ev eu_10
    have hk : okC u_10.1 24 v 0 = true := by rw [eu_10]; exact okC_al (by decide) hk
    have kq_6 : u_10.1 23 u_2.2.1 = some 11 := by rw [eu_10]; exact O.keep (by decide) kq_6
    have O := O9
    rw [← eu_10] at O
    have kq_11 : u_10.1 23 u_5.2.1 = some 9 := by rw [eu_10]; exact dup_self
    refine lv_dup hx hy dX7_product_47 rfl ?_
    refine lv_aload_n hx hy dX7_product_48 rfl (lv_at hl 1 rfl) ?_
    refine lv_iconst (v := 1) hx hy dX7_product_49 (by decide) ?_
    obtain ⟨zz, hg, hm, hX, hf⟩ := bnx_s hf
    refine y_calli htab X.2.2 (y_runV (As := [.int 1]) (rest := [.ref ((hC hs) 23 u_5.2.1 0), .ref ((hC hs) 23 u_5.2.1 0), .int x2_1, .ref x1, .ref ((hC hs) 23 u_2.2.1 0), .ref ((hC hs) 23 u_2.2.1 0)]) X K O (xct_obj hk LC_24) rfl (m_C_X7_number htr0 hk hg) ES_b (ES_h hE) (lw_V q708 q710 qs22 q125 q711) 1 rfl hl.1 (Nat.le_of_ble_eq_true rfl) hdV_X7_number ⟨(by decide), by decide⟩ (hb.cr hm) dX7_product_50) hX (hb.cr hm) (fun r_13 u_12 H9 locs9 hz O => ?_)
    replace hf := hf _ _ hz
    have hb := hb.cl (u1 := u_12) hm (by rw [hz]; rfl)
    obtain ⟨hk, hf⟩ := ck_s hf
    obtain ⟨kq_6, hf⟩ := ck_s hf
    obtain ⟨kq_11, hf⟩ := ck_s hf
    replace kq_6 := of_decide_eq_true kq_6
    replace kq_11 := of_decide_eq_true kq_11
    obtain ⟨u_14, eu_14, hf⟩ := lt1_s hf
    refine x_callv (x_runI (ret' := none) (As := [.int r_13]) (rest := [.ref ((hC hs) 23 u_5.2.1 0), .int x2_1, .ref x1, .ref ((hC hs) 23 u_2.2.1 0), .ref ((hC hs) 23 u_2.2.1 0)]) (bb := ((hC hs) 23 u_5.2.1 0)) X K O.1 (m_C_X11_init kq_11) EN_b EN_h q712 q713 q135 q714 rfl 1 rfl hl.1 (Nat.le_of_ble_eq_true rfl) hdS_X11_init ⟨(by decide), by decide⟩ hb.r dX7_product_53) (fun _ H9 locs9 hp O9 hle => ?_)
    refine W.sz (fun hz => ?_)
    cases hp
    have O := O.call O9 hle hb hz
    rw [← eu_14] at O
    have hb := hb.mv eu_14
    have hk : okC u_14.1 24 v 0 = true := by rw [eu_14]; exact hk
    have kq_6 : u_14.1 23 u_2.2.1 = some 11 := by rw [eu_14]; exact kq_6
    have kq_11 : u_14.1 23 u_5.2.1 = some 9 := by rw [eu_14]; exact kq_11
    refine lv_goto (tgt := 63) hx hy dX7_product_56 (by decide) ?_
    exact w_C_X7_product_b63 X K hE htr0 htab hkb5 _ _ _ _ _ hk kq_6 ls _ _ _ _ O hb (lv_sub hl [1] rfl) hf
def C_X7_product_b5 (v : Nat) : Nat → PS → Nat → Option (RX Nat)
  | 0, _, _ => none
  | n + 1, u, x1 =>
    (if (gI u.2.2 24 v 0 3) = 42 then C_X7_product_b23 v (C_X7_product_b5 v n) u x1 else (if (gI u.2.2 24 v 0 3) = 47 then C_X7_product_b23 v (C_X7_product_b5 v n) u x1 else some (.inl (u, x1))))
theorem w_C_X7_product_b5 {adK adV : Nat → Nat} {e0 : Nat} {v : Nat} (X : FX p m c meth s args RX7 cX7_product 3 (some (.object "NotchSticks$Term"))) (K : XK D d A s) (hE : ES adK adV e0 A s) (htr0 : l.stackTraces = false) (htab : ∀ x ∈ c.exceptionTable.toList, False) {z : RX Nat} : ∀ (n : Nat) (u : PS) (x1 : Nat) (hk : okC u.1 24 v 0 = true) (ls : Array Slot) (H : Heap) (locs : List Loc) (cs sl : Nat), YH D A s.heap hs d u H locs → CB s u (rN z) cs sl → lv_has ls 3 [(0, .ref ((hC hs) 24 v 0)), (1, .ref x1)] → C_X7_product_b5 v n u x1 = some z → W p l e (rmD 10 (rN z - s.heap.size) (22 * (rN z - s.heap.size))) s m args below meth c H locs cs sl (vy_MQ below (Yr D hs d z A) (YX D hs d z A) args s (rN z - s.heap.size) (22 * (rN z - s.heap.size)) A) (F0 m 5 ls []) := by
  have hx := X.1.1; have hy := X.1.2.1
  intro n
  induction n with
  | zero =>
    intro u x1 hk ls H locs cs sl O hb hl hf
    exact absurd hf (fun q => by cases q)
  | succ n ih =>
    intro u x1 hk ls H locs cs sl O hb hl hf
    rw [C_X7_product_b5] at hf
    refine lv_aload_n hx hy dX7_product_5 rfl (lv_at hl 0 rfl) ?_
    refine x_gI X K O.1 3 hk LC_24 rfl rfl in_X7 (by decide) q461 dX7_product_6 ?_
    refine lv_bipush (v := 42) hx hy dX7_product_9 (by decide) ?_
    refine lv_icmp_eq (tgt := 23) hx hy dX7_product_11 (by decide) (fun c_1 => ?_) (fun c_1 => ?_)
    · replace hf := if_t c_1 hf
      exact w_C_X7_product_b23 X K hE htr0 htab ih _ _ hk ls _ _ _ _ O hb (lv_sub hl [0, 1] rfl) hf
    · replace hf := if_f c_1 hf
      refine lv_aload_n hx hy dX7_product_14 rfl (lv_at hl 0 rfl) ?_
      refine x_gI X K O.1 3 hk LC_24 rfl rfl in_X7 (by decide) q461 dX7_product_15 ?_
      refine lv_bipush (v := 47) hx hy dX7_product_18 (by decide) ?_
      refine lv_icmp_ne (tgt := 70) hx hy dX7_product_20 (by decide) (fun c_2 => ?_) (fun c_2 => ?_)
      · replace hf := if_f c_2 hf
        refine lv_aload_n hx hy dX7_product_70 rfl (lv_at hl 1 rfl) ?_
        exact y_aret X O hb rfl (Or.inl ⟨_, rfl⟩) (Option.some.inj hf).symm dX7_product_71
      · replace hf := if_t c_2 hf
        exact w_C_X7_product_b23 X K hE htr0 htab ih _ _ hk ls _ _ _ _ O hb (lv_sub hl [0, 1] rfl) hf
def C_X7_product (v : Nat) (u : PS) : Option (RX Nat) :=
  ckm u (bnx u (C_X7_unit v u) (fun u_1 r_2 => ck (okC u_1.1 24 v 0) (C_X7_product_b5 v FUEL u_1 r_2)))
theorem m_C_X7_product {l : Launch} {D : va_G} {d : Nat → ClassId} {hs : IX} {adK adV : Nat → Nat} {e0 : Nat} {v : Nat} {u : PS} {z : RX Nat} (htr0 : l.stackTraces = false) (hk : okC u.1 24 v 0 = true) (hf : C_X7_product v u = some z) : YM l D d (ES adK adV e0) yX7_product cX7_product 3 (some (.object "NotchSticks$Term")) 10 [.ref ((hC hs) 24 v 0)] hs u z (Yr D hs d z) := by
  rw [C_X7_product] at hf
  obtain ⟨hm, hf⟩ := ckm_s hf
  refine YM.of2 hm (by decide +kernel) (Nat.le_of_ble_eq_true rfl) ?_
  intro p e s m below meth c A ls X htab K hE O hb hl
  have hl : lv_has ls 3 [(0, .ref ((hC hs) 24 v 0))] := hl
  have hx := X.1.1; have hy := X.1.2.1
  refine lv_aload_n hx hy dX7_product_0 rfl (lv_at hl 0 rfl) ?_
  obtain ⟨zz, hg, hm, hX, hf⟩ := bnx_s hf
  refine y_callr htab X.2.2 (y_runV (As := []) (rest := []) X K O (xct_obj hk LC_24) rfl (m_C_X7_unit htr0 hk hg) ES_b (ES_h hE) (lw_V q702 q704 qs21 q125 q705) 0 rfl hl.1 (Nat.le_of_ble_eq_true rfl) hdV_X7_unit ⟨(by decide), by decide⟩ (hb.cr hm) dX7_product_1) hX (hb.cr hm) (fun r_2 u_1 H9 locs9 hz O => ?_)
  replace hf := hf _ _ hz
  have hb := hb.cl (u1 := u_1) hm (by rw [hz]; rfl)
  obtain ⟨hk, hf⟩ := ck_s hf
  refine lv_astore_n (lv' := [(1, .ref r_2), (0, .ref ((hC hs) 24 v 0))]) hx hy dX7_product_4 rfl hl (by decide) rfl (fun ls hl => ?_)
  exact w_C_X7_product_b5 X K hE htr0 htab _ _ _ hk ls _ _ _ _ O hb (lv_sub hl [1, 0] rfl) hf
theorem hdV_X7_product : yX7_product.cls = RX7 ∧ (yX7_product.cls ≠ "java/lang/invoke/MethodHandle" ∧ yX7_product.cls ≠ "java/lang/invoke/VarHandle" ∧ (parseMethodDescriptor yX7_product.desc).map (fun d => d.parameters.length) = some 0) := by decide +kernel
def C_X7_sum_b23 (v : Nat) (kb5 : PS → Nat → Option (RX Nat)) (u : PS) (x1 : Nat) : Option (RX Nat) :=
  lt1 (gI u.2.2 24 v 0 3) (fun x2_1 => bn1 (C_X7_next u.1 v u.2.2) (fun σ_4 => lt1 (pss u σ_4) (fun u_2 => nwx u_2 23 11 (fun u_5 => bnx u_5 (C_X7_product v u_5) (fun u_7 r_8 => ck (okC u_7.1 24 v 0) (ck (decide (u_7.1 23 u_2.2.1 = some 11)) (lt1 (pss u_7 (C_X13_init u_2.2.1 u_7.2.2 x1 x2_1 r_8)) (fun u_9 => kb5 u_9 u_2.2.1))))))))
theorem w_C_X7_sum_b23 {adK adV : Nat → Nat} {e0 : Nat} {v : Nat} (X : FX p m c meth s args RX7 cX7_sum 3 (some (.object "NotchSticks$Term"))) (K : XK D d A s) (hE : ES adK adV e0 A s) (htr0 : l.stackTraces = false) (htab : ∀ x ∈ c.exceptionTable.toList, False) {z : RX Nat} {kb5 : PS → Nat → Option (RX Nat)} (hkb5 : ∀ (u : PS) (x1 : Nat) (hk : okC u.1 24 v 0 = true) (ls : Array Slot) (H : Heap) (locs : List Loc) (cs sl : Nat), YH D A s.heap hs d u H locs → CB s u (rN z) cs sl → lv_has ls 3 [(0, .ref ((hC hs) 24 v 0)), (1, .ref x1)] → kb5 u x1 = some z → W p l e (rmD 11 (rN z - s.heap.size) (22 * (rN z - s.heap.size))) s m args below meth c H locs cs sl (vy_MQ below (Yr D hs d z A) (YX D hs d z A) args s (rN z - s.heap.size) (22 * (rN z - s.heap.size)) A) (F0 m 5 ls [])) : ∀ (u : PS) (x1 : Nat) (hk : okC u.1 24 v 0 = true) (ls : Array Slot) (H : Heap) (locs : List Loc) (cs sl : Nat), YH D A s.heap hs d u H locs → CB s u (rN z) cs sl → lv_has ls 3 [(0, .ref ((hC hs) 24 v 0)), (1, .ref x1)] → C_X7_sum_b23 v kb5 u x1 = some z → W p l e (rmD 11 (rN z - s.heap.size) (22 * (rN z - s.heap.size))) s m args below meth c H locs cs sl (vy_MQ below (Yr D hs d z A) (YX D hs d z A) args s (rN z - s.heap.size) (22 * (rN z - s.heap.size)) A) (F0 m 23 ls []) := by
  have hx := X.1.1; have hy := X.1.2.1
  intro u x1 hk ls H locs cs sl O hb hl hf
  rw [C_X7_sum_b23] at hf
  refine lv_aload_n hx hy dX7_sum_23 rfl (lv_at hl 0 rfl) ?_
  refine x_gI X K O.1 3 hk LC_24 rfl rfl in_X7 (by decide) q461 dX7_sum_24 ?_
  obtain ⟨x2_1, ex2_1, hf⟩ := lt1_s hf
  refine x_top (w := .int x2_1) (by rw [ex2_1]) ?_
  refine lv_istore_n (lv' := [(2, .int x2_1), (0, .ref ((hC hs) 24 v 0)), (1, .ref x1)]) hx hy dX7_sum_27 rfl hl (by decide) rfl (fun ls hl => ?_)
  refine lv_aload_n hx hy dX7_sum_28 rfl (lv_at hl 1 rfl) ?_
  obtain ⟨σ_4, hg, hf⟩ := bn1_s hf
  obtain ⟨u_2, eu_2, hf⟩ := lt1_s hf
  refine x_callv (x_runV (As := []) (rest := []) X K O.1 (xct_obj hk LC_24) rfl (m_C_X7_next hk hg) ES_b (ES_h hE) (lw_V q486 q488 qs4 q125 q489) 0 rfl hl.1 (Nat.le_of_ble_eq_true rfl) hdV_X7_next ⟨(by decide), by decide⟩ hb.r dX7_sum_29) (fun _ H9 locs9 hp O9 hle => ?_)
  refine W.sz (fun hz => ?_)
  cases hp
  have O := O.call O9 hle hb hz
  rw [← eu_2] at O
  have hb := hb.mv eu_2
  have hk : okC u_2.1 24 v 0 = true := by rw [eu_2]; exact hk
  obtain ⟨hm, u_5, eu_5, hf⟩ := nwx_s hf
  refine y_new_X13 X K O hb hm q730 dX7_sum_32 (fun H9 O9 => ?_)
  have hb := (hb.al (N := 3) hm (by decide)).ev eu_5
  have hk : okC u_5.1 24 v 0 = true := by rw [eu_5]; exact okC_al (by decide) hk
  have O := O9
  rw [← eu_5] at O
  have kq_6 : u_5.1 23 u_2.2.1 = some 11 := by rw [eu_5]; exact dup_self
  refine lv_dup hx hy dX7_sum_35 rfl ?_
  refine lv_aload_n hx hy dX7_sum_36 rfl (lv_at hl 2 rfl) ?_
  refine lv_iload_n hx hy dX7_sum_37 rfl (lv_at hl 0 rfl) ?_
  refine lv_aload_n hx hy dX7_sum_38 rfl (lv_at hl 1 rfl) ?_
  obtain ⟨zz, hg, hm, hX, hf⟩ := bnx_s hf
  refine y_callr htab X.2.2 (y_runV (As := []) (rest := [.int x2_1, .ref x1, .ref ((hC hs) 23 u_2.2.1 0), .ref ((hC hs) 23 u_2.2.1 0)]) X K O (xct_obj hk LC_24) rfl (m_C_X7_product htr0 hk hg) ES_b (ES_h hE) (lw_V q698 q700 qs20 q125 q701) 0 rfl hl.1 (Nat.le_of_ble_eq_true rfl) hdV_X7_product ⟨(by decide), by decide⟩ (hb.cr hm) dX7_sum_39) hX (hb.cr hm) (fun r_8 u_7 H9 locs9 hz O => ?_)
  replace hf := hf _ _ hz
  have hb := hb.cl (u1 := u_7) hm (by rw [hz]; rfl)
  obtain ⟨hk, hf⟩ := ck_s hf
  obtain ⟨kq_6, hf⟩ := ck_s hf
  replace kq_6 := of_decide_eq_true kq_6
  obtain ⟨u_9, eu_9, hf⟩ := lt1_s hf
  refine x_callv (x_runI (ret' := none) (As := [.ref x1, .int x2_1, .ref r_8]) (rest := [.ref ((hC hs) 23 u_2.2.1 0)]) (bb := ((hC hs) 23 u_2.2.1 0)) X K O.1 (m_C_X13_init kq_6) EN_b EN_h q732 q733 q137 q734 rfl 3 rfl hl.1 (Nat.le_of_ble_eq_true rfl) hdS_X13_init ⟨(by decide), by decide⟩ hb.r dX7_sum_42) (fun _ H9 locs9 hp O9 hle => ?_)
  refine W.sz (fun hz => ?_)
  cases hp
  have O := O.call O9 hle hb hz
  rw [← eu_9] at O
  have hb := hb.mv eu_9
  have hk : okC u_9.1 24 v 0 = true := by rw [eu_9]; exact hk
  have kq_6 : u_9.1 23 u_2.2.1 = some 11 := by rw [eu_9]; exact kq_6
  refine lv_astore_n (lv' := [(1, .ref ((hC hs) 23 u_2.2.1 0)), (2, .int x2_1), (0, .ref ((hC hs) 24 v 0))]) hx hy dX7_sum_45 rfl hl (by decide) rfl (fun ls hl => ?_)
  refine lv_goto (tgt := 5) hx hy dX7_sum_46 (by decide) ?_
  exact hkb5 _ _ hk ls _ _ _ _ O hb (lv_sub hl [2, 0] rfl) hf
def C_X7_sum_b5 (v : Nat) : Nat → PS → Nat → Option (RX Nat)
  | 0, _, _ => none
  | n + 1, u, x1 =>
    (if (gI u.2.2 24 v 0 3) = 43 then C_X7_sum_b23 v (C_X7_sum_b5 v n) u x1 else (if (gI u.2.2 24 v 0 3) = 45 then C_X7_sum_b23 v (C_X7_sum_b5 v n) u x1 else some (.inl (u, x1))))
theorem w_C_X7_sum_b5 {adK adV : Nat → Nat} {e0 : Nat} {v : Nat} (X : FX p m c meth s args RX7 cX7_sum 3 (some (.object "NotchSticks$Term"))) (K : XK D d A s) (hE : ES adK adV e0 A s) (htr0 : l.stackTraces = false) (htab : ∀ x ∈ c.exceptionTable.toList, False) {z : RX Nat} : ∀ (n : Nat) (u : PS) (x1 : Nat) (hk : okC u.1 24 v 0 = true) (ls : Array Slot) (H : Heap) (locs : List Loc) (cs sl : Nat), YH D A s.heap hs d u H locs → CB s u (rN z) cs sl → lv_has ls 3 [(0, .ref ((hC hs) 24 v 0)), (1, .ref x1)] → C_X7_sum_b5 v n u x1 = some z → W p l e (rmD 11 (rN z - s.heap.size) (22 * (rN z - s.heap.size))) s m args below meth c H locs cs sl (vy_MQ below (Yr D hs d z A) (YX D hs d z A) args s (rN z - s.heap.size) (22 * (rN z - s.heap.size)) A) (F0 m 5 ls []) := by
  have hx := X.1.1; have hy := X.1.2.1
  intro n
  induction n with
  | zero =>
    intro u x1 hk ls H locs cs sl O hb hl hf
    exact absurd hf (fun q => by cases q)
  | succ n ih =>
    intro u x1 hk ls H locs cs sl O hb hl hf
    rw [C_X7_sum_b5] at hf
    refine lv_aload_n hx hy dX7_sum_5 rfl (lv_at hl 0 rfl) ?_
    refine x_gI X K O.1 3 hk LC_24 rfl rfl in_X7 (by decide) q461 dX7_sum_6 ?_
    refine lv_bipush (v := 43) hx hy dX7_sum_9 (by decide) ?_
    refine lv_icmp_eq (tgt := 23) hx hy dX7_sum_11 (by decide) (fun c_1 => ?_) (fun c_1 => ?_)
    · replace hf := if_t c_1 hf
      exact w_C_X7_sum_b23 X K hE htr0 htab ih _ _ hk ls _ _ _ _ O hb (lv_sub hl [0, 1] rfl) hf
    · replace hf := if_f c_1 hf
      refine lv_aload_n hx hy dX7_sum_14 rfl (lv_at hl 0 rfl) ?_
      refine x_gI X K O.1 3 hk LC_24 rfl rfl in_X7 (by decide) q461 dX7_sum_15 ?_
      refine lv_bipush (v := 45) hx hy dX7_sum_18 (by decide) ?_
      refine lv_icmp_ne (tgt := 49) hx hy dX7_sum_20 (by decide) (fun c_2 => ?_) (fun c_2 => ?_)
      · replace hf := if_f c_2 hf
        refine lv_aload_n hx hy dX7_sum_49 rfl (lv_at hl 1 rfl) ?_
        exact y_aret X O hb rfl (Or.inl ⟨_, rfl⟩) (Option.some.inj hf).symm dX7_sum_50
      · replace hf := if_t c_2 hf
        exact w_C_X7_sum_b23 X K hE htr0 htab ih _ _ hk ls _ _ _ _ O hb (lv_sub hl [0, 1] rfl) hf
def C_X7_sum (v : Nat) (u : PS) : Option (RX Nat) :=
  ckm u (bnx u (C_X7_product v u) (fun u_1 r_2 => ck (okC u_1.1 24 v 0) (C_X7_sum_b5 v FUEL u_1 r_2)))
theorem m_C_X7_sum {l : Launch} {D : va_G} {d : Nat → ClassId} {hs : IX} {adK adV : Nat → Nat} {e0 : Nat} {v : Nat} {u : PS} {z : RX Nat} (htr0 : l.stackTraces = false) (hk : okC u.1 24 v 0 = true) (hf : C_X7_sum v u = some z) : YM l D d (ES adK adV e0) yX7_sum cX7_sum 3 (some (.object "NotchSticks$Term")) 11 [.ref ((hC hs) 24 v 0)] hs u z (Yr D hs d z) := by
  rw [C_X7_sum] at hf
  obtain ⟨hm, hf⟩ := ckm_s hf
  refine YM.of2 hm (by decide +kernel) (Nat.le_of_ble_eq_true rfl) ?_
  intro p e s m below meth c A ls X htab K hE O hb hl
  have hl : lv_has ls 3 [(0, .ref ((hC hs) 24 v 0))] := hl
  have hx := X.1.1; have hy := X.1.2.1
  refine lv_aload_n hx hy dX7_sum_0 rfl (lv_at hl 0 rfl) ?_
  obtain ⟨zz, hg, hm, hX, hf⟩ := bnx_s hf
  refine y_callr htab X.2.2 (y_runV (As := []) (rest := []) X K O (xct_obj hk LC_24) rfl (m_C_X7_product htr0 hk hg) ES_b (ES_h hE) (lw_V q698 q700 qs20 q125 q701) 0 rfl hl.1 (Nat.le_of_ble_eq_true rfl) hdV_X7_product ⟨(by decide), by decide⟩ (hb.cr hm) dX7_sum_1) hX (hb.cr hm) (fun r_2 u_1 H9 locs9 hz O => ?_)
  replace hf := hf _ _ hz
  have hb := hb.cl (u1 := u_1) hm (by rw [hz]; rfl)
  obtain ⟨hk, hf⟩ := ck_s hf
  refine lv_astore_n (lv' := [(1, .ref r_2), (0, .ref ((hC hs) 24 v 0))]) hx hy dX7_sum_4 rfl hl (by decide) rfl (fun ls hl => ?_)
  exact w_C_X7_sum_b5 X K hE htr0 htab _ _ _ hk ls _ _ _ _ O hb (lv_sub hl [1, 0] rfl) hf
end YW
