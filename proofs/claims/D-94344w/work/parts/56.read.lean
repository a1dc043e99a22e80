section YW
variable {p : Program} {l : Launch} {e : Env} {s : State} {m : MethodId} {args : Array Value} {below : List Frame} {meth : Method} {c : Code} {D : va_G} {A : Nat → Prop} {hs : IX} {d : Nat → ClassId}

theorem hdV_J2_add : yJ2_add.cls = RJ2 ∧ (yJ2_add.cls ≠ "java/lang/invoke/MethodHandle" ∧ yJ2_add.cls ≠ "java/lang/invoke/VarHandle" ∧ (parseMethodDescriptor yJ2_add.desc).map (fun d => d.parameters.length) = some 1) := by decide +kernel
def C_X7_read_b12 (e0 : Nat) (F : Nat) (v : Nat) : Nat → PS → Nat → Option (RX Nat)
  | 0, _, _ => none
  | n + 1, u, x1a =>
    (if (gI u.2.2 24 v 0 3) = 0 then some (.inl (u, x1a)) else bn2 (C_X0_isIn u.1 u.2.2 (gI u.2.2 24 v 0 3) 300 302) (fun σ_4 r_3 => lt1 (pss u σ_4) (fun u_2 => (if r_3 = 0 then some (.inr (bmp u_2, 1, gI u_2.2.2 24 v 0 2)) else bn2 (C_J2_size u_2.1 x1a u_2.2.2) (fun σ_8 r_7 => lt1 (pss u_2 σ_8) (fun u_6 => (if r_7 = 16 then some (.inr (bmp u_6, 3, gI u_6.2.2 24 v 0 2)) else lt1 ((gI u_6.2.2 24 v 0 3) - 300) (fun x2_10 => lt1 (pss u_6 (sI u_6.2.2 24 v 0 5 0)) (fun u_11 => bn1 (C_X7_next u_11.1 v u_11.2.2) (fun σ_14 => lt1 (pss u_11 σ_14) (fun u_12 => bnx u_12 (C_X7_must v u_12 3) (fun u_15 _ => ck (okC u_15.1 24 v 0) (ck (okC u_15.1 20 x1a 0) (bnx u_15 (P_any v F u_15) (fun u_17 r_18 => ck (okC u_17.1 24 v 0) (ck (okC u_17.1 20 x1a 0) (bnx u_17 (C_X7_must v u_17 59) (fun u_19 _ => ck (okC u_19.1 24 v 0) (ck (okC u_19.1 20 x1a 0) (nwx u_19 22 0 (fun u_21 => lt1 (pss u_21 (C_X14_init u_19.2.1 u_21.2.2 x2_10 r_18)) (fun u_23 => bnx u_23 (C_J2_add e0 x1a u_19.2.1 u_23) (fun u_24 r_25 => ck (okC u_24.1 24 v 0) (ck (okC u_24.1 20 x1a 0) ((C_X7_read_b12 e0 F v n) u_24 x1a)))))))))))))))))))))))))
theorem w_C_X7_read_b12 {adK adV : Nat → Nat} {e0 : Nat} {F : Nat} {v : Nat} (X : FX p m c meth s args RX7 cX7_read 4 (some (.object "java/util/ArrayList"))) (K : XK D d A s) (hE : ES adK adV e0 A s) (htr0 : l.stackTraces = false) (htab : ∀ x ∈ c.exceptionTable.toList, False) {z : RX Nat} : ∀ (n : Nat) (u : PS) (x1a : Nat) (hk : okC u.1 24 v 0 = true) (kx1 : okC u.1 20 x1a 0 = true) (ls : Array Slot) (H : Heap) (locs : List Loc) (cs sl : Nat), YH D A s.heap hs d u H locs → CB s u (rN z) cs sl → lv_has ls 4 [(0, .ref ((hC hs) 24 v 0)), (1, .ref ((hC hs) 20 x1a 0))] → C_X7_read_b12 e0 F v n u x1a = some z → W p l e (rmD (14 + 3 * F) (rN z - s.heap.size) (22 * (rN z - s.heap.size))) s m args below meth c H locs cs sl (vy_MQ below (Yr D hs d z A) (YX D hs d z A) args s (rN z - s.heap.size) (22 * (rN z - s.heap.size)) A) (F0 m 12 ls []) := by
  have hx := X.1.1; have hy := X.1.2.1
  intro n
  induction n with
  | zero =>
    intro u x1a hk kx1 ls H locs cs sl O hb hl hf
    exact absurd hf (fun q => by cases q)
  | succ n ih =>
    intro u x1a hk kx1 ls H locs cs sl O hb hl hf
    rw [C_X7_read_b12] at hf
    refine lv_aload_n hx hy dX7_read_12 rfl (lv_at hl 0 rfl) ?_
    refine x_gI X K O.1 3 hk LC_24 rfl rfl in_X7 (by decide) q461 dX7_read_13 ?_
    refine lv_if_eq (tgt := 121) hx hy dX7_read_16 (by decide) (fun c_1 => ?_) (fun c_1 => ?_)
    · replace hf := if_t c_1 hf
      refine lv_aload_n hx hy dX7_read_121 rfl (lv_at hl 1 rfl) ?_
      exact y_aret X O hb rfl (Or.inl ⟨_, rfl⟩) (Option.some.inj hf).symm dX7_read_122
    · replace hf := if_f c_1 hf
      refine lv_aload_n hx hy dX7_read_19 rfl (lv_at hl 0 rfl) ?_
      refine x_gI X K O.1 3 hk LC_24 rfl rfl in_X7 (by decide) q461 dX7_read_20 ?_
      refine lv_sipush (v := 300) hx hy dX7_read_23 (by decide) ?_
      refine lv_sipush (v := 302) hx hy dX7_read_26 (by decide) ?_
      obtain ⟨σ_4, r_3, hg, hf⟩ := bn2_s hf
      obtain ⟨u_2, eu_2, hf⟩ := lt1_s hf
      refine x_calli (x_runSN (As := [.int (gI u.2.2 24 v 0 3), .int 300, .int 302]) (rest := []) X K O.1 (m_C_X0_isIn hg) EN_b EN_h q498 q445 q111 q446 3 rfl hl.1 (Nat.le_of_ble_eq_true rfl) hdS_X0_isIn ⟨(by omega), by decide⟩ hb.r dX7_read_29) (fun r _ H9 locs9 hp O9 hle => ?_)
      refine W.sz (fun hz => ?_)
      cases hp
      have O := O.call O9 hle hb hz
      rw [← eu_2] at O
      have hb := hb.mv eu_2
      have hk : okC u_2.1 24 v 0 = true := by rw [eu_2]; exact hk
      have kx1 : okC u_2.1 20 x1a 0 = true := by rw [eu_2]; exact kx1
      refine lv_if_ne (tgt := 48) hx hy dX7_read_32 (by decide) (fun c_5 => ?_) (fun c_5 => ?_)
      · replace hf := if_f c_5 hf
        refine lv_aload_n hx hy dX7_read_48 rfl (lv_at hl 1 rfl) ?_
        obtain ⟨σ_8, r_7, hg, hf⟩ := bn2_s hf
        obtain ⟨u_6, eu_6, hf⟩ := lt1_s hf
        refine x_calli (x_runV (As := []) (rest := []) X K O.1 (xct_obj kx1 LC_20) rfl (m_C_J2_size kx1 hg) EN_b EN_h (lw_V q657 q658 q659 q114 q660) 0 rfl hl.1 (Nat.le_of_ble_eq_true rfl) hdV_J2_size ⟨(by omega), by decide⟩ hb.r dX7_read_49) (fun r _ H9 locs9 hp O9 hle => ?_)
        refine W.sz (fun hz => ?_)
        cases hp
        have O := O.call O9 hle hb hz
        rw [← eu_6] at O
        have hb := hb.mv eu_6
        have hk : okC u_6.1 24 v 0 = true := by rw [eu_6]; exact hk
        have kx1 : okC u_6.1 20 x1a 0 = true := by rw [eu_6]; exact kx1
        refine lv_bipush (v := 16) hx hy dX7_read_52 (by decide) ?_
        refine lv_icmp_ne (tgt := 70) hx hy dX7_read_54 (by decide) (fun c_9 => ?_) (fun c_9 => ?_)
        · replace hf := if_f c_9 hf
          refine lv_aload_n hx hy dX7_read_70 rfl (lv_at hl 0 rfl) ?_
          refine x_gI X K O.1 3 hk LC_24 rfl rfl in_X7 (by decide) q461 dX7_read_71 ?_
          refine lv_sipush (v := 300) hx hy dX7_read_74 (by decide) ?_
          refine lv_isub hx hy dX7_read_77 ?_
          obtain ⟨x2_10, ex2_10, hf⟩ := lt1_s hf
          refine x_top (w := .int x2_10) (by rw [ex2_10]) ?_
          refine lv_istore_n (lv' := [(2, .int x2_10), (0, .ref ((hC hs) 24 v 0)), (1, .ref ((hC hs) 20 x1a 0))]) hx hy dX7_read_78 rfl hl (by decide) rfl (fun ls hl => ?_)
          refine lv_aload_n hx hy dX7_read_79 rfl (lv_at hl 1 rfl) ?_
          refine lv_iconst (v := 0) hx hy dX7_read_80 (by decide) ?_
          obtain ⟨u_11, eu_11, hf⟩ := lt1_s hf
          refine x_pI X K O.1.self 5 hk LC_24 rfl rfl in_X7 tyX7_ok nmX7 (by decide) q463 rfl rfl rfl dX7_read_81 (fun H9 locs9 O9 => ?_)
          refine W.sz (fun hz => ?_)
          have O := O.put O9 hb hz
          rw [← eu_11] at O
          have hb := hb.mv eu_11
          have hk : okC u_11.1 24 v 0 = true := by rw [eu_11]; exact hk
          have kx1 : okC u_11.1 20 x1a 0 = true := by rw [eu_11]; exact kx1
          refine lv_aload_n hx hy dX7_read_84 rfl (lv_at hl 1 rfl) ?_
          obtain ⟨σ_14, hg, hf⟩ := bn1_s hf
          obtain ⟨u_12, eu_12, hf⟩ := lt1_s hf
          refine x_callv (x_runV (As := []) (rest := []) X K O.1 (xct_obj hk LC_24) rfl (m_C_X7_next hk hg) ES_b (ES_h hE) (lw_V q486 q488 qs4 q125 q489) 0 rfl hl.1 (Nat.le_of_ble_eq_true rfl) hdV_X7_next ⟨(by omega), by decide⟩ hb.r dX7_read_85) (fun _ H9 locs9 hp O9 hle => ?_)
          refine W.sz (fun hz => ?_)
          cases hp
          have O := O.call O9 hle hb hz
          rw [← eu_12] at O
          have hb := hb.mv eu_12
          have hk : okC u_12.1 24 v 0 = true := by rw [eu_12]; exact hk
          have kx1 : okC u_12.1 20 x1a 0 = true := by rw [eu_12]; exact kx1
          refine lv_aload_n hx hy dX7_read_88 rfl (lv_at hl 1 rfl) ?_
          refine lv_iconst (v := 3) hx hy dX7_read_89 (by decide) ?_
          obtain ⟨zz, hg, hm, hX, hf⟩ := bnx_s hf
          refine y_callv htab X.2.2 (y_runV (As := [.int 3]) (rest := []) X K O (xct_obj hk LC_24) rfl (m_C_X7_must htr0 hk hg) ES_b (ES_h hE) (lw_V q661 q663 qs14 q125 q664) 1 rfl hl.1 (Nat.le_of_ble_eq_true rfl) hdV_X7_must ⟨(by omega), by decide⟩ (hb.cr hm) dX7_read_90) hX (hb.cr hm) (fun u_15 H9 locs9 hz O => ?_)
          replace hf := hf _ _ hz
          have hb := hb.cl (u1 := u_15) hm (by rw [hz]; rfl)
          obtain ⟨hk, hf⟩ := ck_s hf
          obtain ⟨kx1, hf⟩ := ck_s hf
          refine lv_aload_n hx hy dX7_read_93 rfl (lv_at hl 1 rfl) ?_
          obtain ⟨zz, hg, hm, hX, hf⟩ := bnx_s hf
          refine y_callr htab X.2.2 (y_runV (As := []) (rest := []) X K O (xct_obj hk LC_24) rfl (m_P_any htr0 F _ _ hk hg) ES_b (ES_h hE) (lw_V q665 q667 qs15 q125 q668) 0 rfl hl.1 (Nat.le_of_ble_eq_true rfl) hdV_X7_any ⟨(by omega), by decide⟩ (hb.cr hm) dX7_read_94) hX (hb.cr hm) (fun r_18 u_17 H9 locs9 hz O => ?_)
          replace hf := hf _ _ hz
          have hb := hb.cl (u1 := u_17) hm (by rw [hz]; rfl)
          obtain ⟨hk, hf⟩ := ck_s hf
          obtain ⟨kx1, hf⟩ := ck_s hf
          refine lv_astore_n (lv' := [(3, .ref r_18), (2, .int x2_10), (0, .ref ((hC hs) 24 v 0)), (1, .ref ((hC hs) 20 x1a 0))]) hx hy dX7_read_97 rfl hl (by decide) rfl (fun ls hl => ?_)
          refine lv_aload_n hx hy dX7_read_98 rfl (lv_at hl 2 rfl) ?_
          refine lv_bipush (v := 59) hx hy dX7_read_99 (by decide) ?_
          obtain ⟨zz, hg, hm, hX, hf⟩ := bnx_s hf
          refine y_callv htab X.2.2 (y_runV (As := [.int 59]) (rest := []) X K O (xct_obj hk LC_24) rfl (m_C_X7_must htr0 hk hg) ES_b (ES_h hE) (lw_V q661 q663 qs14 q125 q664) 1 rfl hl.1 (Nat.le_of_ble_eq_true rfl) hdV_X7_must ⟨(by omega), by decide⟩ (hb.cr hm) dX7_read_101) hX (hb.cr hm) (fun u_19 H9 locs9 hz O => ?_)
          replace hf := hf _ _ hz
          have hb := hb.cl (u1 := u_19) hm (by rw [hz]; rfl)
          obtain ⟨hk, hf⟩ := ck_s hf
          obtain ⟨kx1, hf⟩ := ck_s hf
          refine lv_aload_n hx hy dX7_read_104 rfl (lv_at hl 3 rfl) ?_
          obtain ⟨hm, u_21, eu_21, hf⟩ := nwx_s hf
          refine y_new_X14 X K O hb hm q746 dX7_read_105 (fun H9 O9 => ?_)
          have hb := (hb.al (N := 2) hm (by decide)).ev eu_21
          have hk : okC u_21.1 24 v 0 = true := by rw [eu_21]; exact okC_al (by decide) hk
          have kx1 : okC u_21.1 20 x1a 0 = true := by rw [eu_21]; exact okC_al (by decide) kx1
          have O := O9
          rw [← eu_21] at O
          have kq_22 : okC u_21.1 22 u_19.2.1 0 = true := by rw [eu_21]; exact ok_new (by decide)
          refine lv_dup hx hy dX7_read_108 rfl ?_
          refine lv_iload_n hx hy dX7_read_109 rfl (lv_at hl 1 rfl) ?_
          refine lv_aload_n hx hy dX7_read_110 rfl (lv_at hl 0 rfl) ?_
          obtain ⟨u_23, eu_23, hf⟩ := lt1_s hf
          refine x_callv (x_runI (ret' := none) (As := [.int x2_10, .ref r_18]) (rest := [.ref ((hC hs) 22 u_19.2.1 0), .ref ((hC hs) 20 x1a 0)]) (bb := ((hC hs) 22 u_19.2.1 0)) X K O.1 (m_C_X14_init kq_22) EN_b EN_h q748 q749 q138 q750 rfl 2 rfl hl.1 (Nat.le_of_ble_eq_true rfl) hdS_X14_init ⟨(by omega), by decide⟩ hb.r dX7_read_111) (fun _ H9 locs9 hp O9 hle => ?_)
          refine W.sz (fun hz => ?_)
          cases hp
          have O := O.call O9 hle hb hz
          rw [← eu_23] at O
          have hb := hb.mv eu_23
          have hk : okC u_23.1 24 v 0 = true := by rw [eu_23]; exact hk
          have kx1 : okC u_23.1 20 x1a 0 = true := by rw [eu_23]; exact kx1
          have kq_22 : okC u_23.1 22 u_19.2.1 0 = true := by rw [eu_23]; exact kq_22
          obtain ⟨zz, hg, hm, hX, hf⟩ := bnx_s hf
          refine y_calli htab X.2.2 (y_runV (As := [.ref ((hC hs) 22 u_19.2.1 0)]) (rest := []) X K O (xct_obj kx1 LC_20) rfl (m_C_J2_add htr0 kx1 hg) ES_b (ES_h hE) (lw_V q761 q176 q177 q114 q178) 1 rfl hl.1 (Nat.le_of_ble_eq_true rfl) hdV_J2_add ⟨(by omega), by decide⟩ (hb.cr hm) dX7_read_114) hX (hb.cr hm) (fun r_25 u_24 H9 locs9 hz O => ?_)
          replace hf := hf _ _ hz
          have hb := hb.cl (u1 := u_24) hm (by rw [hz]; rfl)
          obtain ⟨hk, hf⟩ := ck_s hf
          obtain ⟨kx1, hf⟩ := ck_s hf
          refine lv_pop hx hy dX7_read_117 rfl ?_
          refine lv_goto (tgt := 12) hx hy dX7_read_118 (by decide) ?_
          exact ih _ _ hk kx1 ls _ _ _ _ O hb (lv_sub hl [2, 3] rfl) hf
        · replace hf := if_t c_9 hf
          exact y_throw2 (k := 3) (ki := 3) X K hE htr0 htab O hb hk hl (kk := 0) rfl rfl (by omega) (Option.some.inj hf).symm dX7_read_57 dX7_read_60 dX7_read_61 dX7_read_62 dX7_read_63 dX7_read_66 dX7_read_69
      · replace hf := if_t c_5 hf
        exact y_throw2 (k := 1) (ki := 1) X K hE htr0 htab O hb hk hl (kk := 0) rfl rfl (by omega) (Option.some.inj hf).symm dX7_read_35 dX7_read_38 dX7_read_39 dX7_read_40 dX7_read_41 dX7_read_44 dX7_read_47
def C_X7_read (e0 : Nat) (F : Nat) (v : Nat) (u : PS) : Option (RX Nat) :=
  ckm u (nlx u e0 (fun u_1 => bn1 (C_X7_next u_1.1 v u_1.2.2) (fun σ_5 => lt1 (pss u_1 σ_5) (fun u_3 => C_X7_read_b12 e0 F v FUEL u_3 u.2.1))))
theorem m_C_X7_read {l : Launch} {D : va_G} {d : Nat → ClassId} {hs : IX} {adK adV : Nat → Nat} {e0 : Nat} {F : Nat} {v : Nat} {u : PS} {z : RX Nat} (htr0 : l.stackTraces = false) (hk : okC u.1 24 v 0 = true) (hf : C_X7_read e0 F v u = some z) : YM l D d (ES adK adV e0) yX7_read cX7_read 4 (some (.object "java/util/ArrayList")) (14 + 3 * F) [.ref ((hC hs) 24 v 0)] hs u z (Yr D hs d z) := by
  rw [C_X7_read] at hf
  obtain ⟨hm, hf⟩ := ckm_s hf
  refine YM.of2 hm (by decide +kernel) (Nat.le_of_ble_eq_true rfl) ?_
  intro p e s m below meth c A ls X htab K hE O hb hl
  have hl : lv_has ls 4 [(0, .ref ((hC hs) 24 v 0))] := hl
  have hx := X.1.1; have hy := X.1.2.1
  obtain ⟨hm, u_1, eu_1, hf⟩ := nlx_s hf
  refine y_newlist X K hE O hb hm (hb.c1 hm) (hb.s1 (N := 3) hm (by decide)) hl.1 (Nat.le_of_ble_eq_true rfl) (by omega) q484 q485 dX7_read_0 dX7_read_3 dX7_read_4 (fun H9 locs9 O9 => ?_)
  have hb := (hb.al (t := 20) (x := 0) (N := 3) hm (by decide)).mv eu_1
  have hk : okC u_1.1 24 v 0 = true := by rw [eu_1]; exact okC_al (by decide) hk
  have kq_2 : okC u_1.1 20 u.2.1 0 = true := by rw [eu_1]; exact ok_new (by decide)
  have O := O9
  rw [← eu_1] at O
  refine x_top (w := .ref ((hC hs) 20 u.2.1 0)) rfl ?_
  refine lv_astore_n (lv' := [(1, .ref ((hC hs) 20 u.2.1 0)), (0, .ref ((hC hs) 24 v 0))]) hx hy dX7_read_7 rfl hl (by decide) rfl (fun ls hl => ?_)
  refine lv_aload_n hx hy dX7_read_8 rfl (lv_at hl 1 rfl) ?_
  obtain ⟨σ_5, hg, hf⟩ := bn1_s hf
  obtain ⟨u_3, eu_3, hf⟩ := lt1_s hf
  refine x_callv (x_runV (As := []) (rest := []) X K O.1 (xct_obj hk LC_24) rfl (m_C_X7_next hk hg) ES_b (ES_h hE) (lw_V q486 q488 qs4 q125 q489) 0 rfl hl.1 (Nat.le_of_ble_eq_true rfl) hdV_X7_next ⟨(by omega), by decide⟩ hb.r dX7_read_9) (fun _ H9 locs9 hp O9 hle => ?_)
  refine W.sz (fun hz => ?_)
  cases hp
  have O := O.call O9 hle hb hz
  rw [← eu_3] at O
  have hb := hb.mv eu_3
  have hk : okC u_3.1 24 v 0 = true := by rw [eu_3]; exact hk
  have kq_2 : okC u_3.1 20 u.2.1 0 = true := by rw [eu_3]; exact kq_2
  exact w_C_X7_read_b12 X K hE htr0 htab _ _ _ hk kq_2 ls _ _ _ _ O hb (lv_sub hl [1, 0] rfl) hf
end YW
