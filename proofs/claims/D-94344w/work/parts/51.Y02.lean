section YW
variable {p : Program} {l : Launch} {e : Env} {s : State} {m : MethodId} {args : Array Value} {below : List Frame} {meth : Method} {c : Code} {D : va_G} {A : Nat → Prop} {hs : IX} {d : Nat → ClassId}

theorem hdV_X7_one : yX7_one.cls = RX7 ∧ (yX7_one.cls ≠ "java/lang/invoke/MethodHandle" ∧ yX7_one.cls ≠ "java/lang/invoke/VarHandle" ∧ (parseMethodDescriptor yX7_one.desc).map (fun d => d.parameters.length) = some 0) := by decide +kernel
def C_X7_all_b5 (fO : PS → Option (RX Nat)) (v : Nat) : Nat → PS → Nat → Option (RX Nat)
  | 0, _, _ => none
  | n + 1, u, x1 =>
    (if (gI u.2.2 24 v 0 3) = 5 then bn1 (C_X7_next u.1 v u.2.2) (fun σ_4 => lt1 (pss u σ_4) (fun u_2 => nwx u_2 23 11 (fun u_5 => bnx u_5 (fO u_5) (fun u_7 r_8 => ck (okC u_7.1 24 v 0) (ck (decide (u_7.1 23 u_2.2.1 = some 11)) (lt1 (pss u_7 (C_X13_init u_2.2.1 u_7.2.2 x1 5 r_8)) (fun u_9 => (C_X7_all_b5 fO v n) u_9 u_2.2.1))))))) else some (.inl (u, x1)))
theorem w_C_X7_all_b5 {adK adV : Nat → Nat} {e0 : Nat} {dO : Nat} {fO : PS → Option (RX Nat)} {v : Nat} (X : FX p m c meth s args RX7 cX7_all 2 (some (.object "NotchSticks$Term"))) (K : XK D d A s) (hE : ES adK adV e0 A s) (htr0 : l.stackTraces = false) (htab : ∀ x ∈ c.exceptionTable.toList, False) {z : RX Nat} (hdO : 11 ≤ dO) (hO : ∀ (u : PS) (z : RX Nat), okC u.1 24 v 0 = true → fO u = some z → YM l D d (ES adK adV e0) yX7_one cX7_one 3 (some (.object "NotchSticks$Term")) dO [.ref (hC hs 24 v 0)] hs u z (Yr D hs d z)) : ∀ (n : Nat) (u : PS) (x1 : Nat) (hk : okC u.1 24 v 0 = true) (ls : Array Slot) (H : Heap) (locs : List Loc) (cs sl : Nat), YH D A s.heap hs d u H locs → CB s u (rN z) cs sl → lv_has ls 2 [(0, .ref ((hC hs) 24 v 0)), (1, .ref x1)] → C_X7_all_b5 fO v n u x1 = some z → W p l e (rmD (dO + 1) (rN z - s.heap.size) (22 * (rN z - s.heap.size))) s m args below meth c H locs cs sl (vy_MQ below (Yr D hs d z A) (YX D hs d z A) args s (rN z - s.heap.size) (22 * (rN z - s.heap.size)) A) (F0 m 5 ls []) := by
  have hx := X.1.1; have hy := X.1.2.1
  intro n
  induction n with
  | zero =>
    intro u x1 hk ls H locs cs sl O hb hl hf
    exact absurd hf (fun q => by cases q)
  | succ n ih =>
    intro u x1 hk ls H locs cs sl O hb hl hf
    rw [C_X7_all_b5] at hf
    refine lv_aload_n hx hy dX7_all_5 rfl (lv_at hl 0 rfl) ?_
    refine x_gI X K O.1 3 hk LC_24 rfl rfl in_X7 (by decide) q461 dX7_all_6 ?_
    refine lv_iconst (v := 5) hx hy dX7_all_9 (by decide) ?_
    refine lv_icmp_ne (tgt := 34) hx hy dX7_all_10 (by decide) (fun c_1 => ?_) (fun c_1 => ?_)
    · replace hf := if_f c_1 hf
      refine lv_aload_n hx hy dX7_all_34 rfl (lv_at hl 1 rfl) ?_
      exact y_aret X O hb rfl (Or.inl ⟨_, rfl⟩) (Option.some.inj hf).symm dX7_all_35
    · replace hf := if_t c_1 hf
      refine lv_aload_n hx hy dX7_all_13 rfl (lv_at hl 0 rfl) ?_
      obtain ⟨σ_4, hg, hf⟩ := bn1_s hf
      obtain ⟨u_2, eu_2, hf⟩ := lt1_s hf
      refine x_callv (x_runV (As := []) (rest := []) X K O.1 (xct_obj hk LC_24) rfl (m_C_X7_next hk hg) ES_b (ES_h hE) (lw_V q486 q488 qs4 q125 q489) 0 rfl hl.1 (Nat.le_of_ble_eq_true rfl) hdV_X7_next ⟨(by omega), by decide⟩ hb.r dX7_all_14) (fun _ H9 locs9 hp O9 hle => ?_)
      refine W.sz (fun hz => ?_)
      cases hp
      have O := O.call O9 hle hb hz
      rw [← eu_2] at O
      have hb := hb.mv eu_2
      have hk : okC u_2.1 24 v 0 = true := by rw [eu_2]; exact hk
      obtain ⟨hm, u_5, eu_5, hf⟩ := nwx_s hf
      refine y_new_X13 X K O hb hm q730 dX7_all_17 (fun H9 O9 => ?_)
      have hb := (hb.al (N := 3) hm (by decide)).ev eu_5
      have hk : okC u_5.1 24 v 0 = true := by rw [eu_5]; exact okC_al (by decide) hk
      have O := O9
      rw [← eu_5] at O
      have kq_6 : u_5.1 23 u_2.2.1 = some 11 := by rw [eu_5]; exact dup_self
      refine lv_dup hx hy dX7_all_20 rfl ?_
      refine lv_aload_n hx hy dX7_all_21 rfl (lv_at hl 1 rfl) ?_
      refine lv_iconst (v := 5) hx hy dX7_all_22 (by decide) ?_
      refine lv_aload_n hx hy dX7_all_23 rfl (lv_at hl 0 rfl) ?_
      obtain ⟨zz, hg, hm, hX, hf⟩ := bnx_s hf
      refine y_callr htab X.2.2 (y_runV (As := []) (rest := [.int 5, .ref x1, .ref ((hC hs) 23 u_2.2.1 0), .ref ((hC hs) 23 u_2.2.1 0)]) X K O (xct_obj hk LC_24) rfl (hO _ _ hk hg) ES_b (ES_h hE) (lw_V q673 q675 qs17 q125 q676) 0 rfl hl.1 (Nat.le_of_ble_eq_true rfl) hdV_X7_one ⟨(by omega), by decide⟩ (hb.cr hm) dX7_all_24) hX (hb.cr hm) (fun r_8 u_7 H9 locs9 hz O => ?_)
      replace hf := hf _ _ hz
      have hb := hb.cl (u1 := u_7) hm (by rw [hz]; rfl)
      obtain ⟨hk, hf⟩ := ck_s hf
      obtain ⟨kq_6, hf⟩ := ck_s hf
      replace kq_6 := of_decide_eq_true kq_6
      obtain ⟨u_9, eu_9, hf⟩ := lt1_s hf
      refine x_callv (x_runI (ret' := none) (As := [.ref x1, .int 5, .ref r_8]) (rest := [.ref ((hC hs) 23 u_2.2.1 0)]) (bb := ((hC hs) 23 u_2.2.1 0)) X K O.1 (m_C_X13_init kq_6) EN_b EN_h q732 q733 q137 q734 rfl 3 rfl hl.1 (Nat.le_of_ble_eq_true rfl) hdS_X13_init ⟨(by omega), by decide⟩ hb.r dX7_all_27) (fun _ H9 locs9 hp O9 hle => ?_)
      refine W.sz (fun hz => ?_)
      cases hp
      have O := O.call O9 hle hb hz
      rw [← eu_9] at O
      have hb := hb.mv eu_9
      have hk : okC u_9.1 24 v 0 = true := by rw [eu_9]; exact hk
      have kq_6 : u_9.1 23 u_2.2.1 = some 11 := by rw [eu_9]; exact kq_6
      refine lv_astore_n (lv' := [(1, .ref ((hC hs) 23 u_2.2.1 0)), (0, .ref ((hC hs) 24 v 0))]) hx hy dX7_all_30 rfl hl (by decide) rfl (fun ls hl => ?_)
      refine lv_goto (tgt := 5) hx hy dX7_all_31 (by decide) ?_
      exact ih _ _ hk ls _ _ _ _ O hb (lv_sub hl [1, 0] rfl) hf
def C_X7_all (fO : PS → Option (RX Nat)) (v : Nat) (u : PS) : Option (RX Nat) :=
  ckm u (bnx u (fO u) (fun u_1 r_2 => ck (okC u_1.1 24 v 0) (C_X7_all_b5 fO v FUEL u_1 r_2)))
theorem m_C_X7_all {l : Launch} {D : va_G} {d : Nat → ClassId} {hs : IX} {adK adV : Nat → Nat} {e0 : Nat} {dO : Nat} {fO : PS → Option (RX Nat)} {v : Nat} {u : PS} {z : RX Nat} (htr0 : l.stackTraces = false) (hdO : 11 ≤ dO) (hO : ∀ (u : PS) (z : RX Nat), okC u.1 24 v 0 = true → fO u = some z → YM l D d (ES adK adV e0) yX7_one cX7_one 3 (some (.object "NotchSticks$Term")) dO [.ref (hC hs 24 v 0)] hs u z (Yr D hs d z)) (hk : okC u.1 24 v 0 = true) (hf : C_X7_all fO v u = some z) : YM l D d (ES adK adV e0) yX7_all cX7_all 2 (some (.object "NotchSticks$Term")) (dO + 1) [.ref ((hC hs) 24 v 0)] hs u z (Yr D hs d z) := by
  rw [C_X7_all] at hf
  obtain ⟨hm, hf⟩ := ckm_s hf
  refine YM.of2 hm (by decide +kernel) (Nat.le_of_ble_eq_true rfl) ?_
  intro p e s m below meth c A ls X htab K hE O hb hl
  have hl : lv_has ls 2 [(0, .ref ((hC hs) 24 v 0))] := hl
  have hx := X.1.1; have hy := X.1.2.1
  refine lv_aload_n hx hy dX7_all_0 rfl (lv_at hl 0 rfl) ?_
  obtain ⟨zz, hg, hm, hX, hf⟩ := bnx_s hf
  refine y_callr htab X.2.2 (y_runV (As := []) (rest := []) X K O (xct_obj hk LC_24) rfl (hO _ _ hk hg) ES_b (ES_h hE) (lw_V q673 q675 qs17 q125 q676) 0 rfl hl.1 (Nat.le_of_ble_eq_true rfl) hdV_X7_one ⟨(by omega), by decide⟩ (hb.cr hm) dX7_all_1) hX (hb.cr hm) (fun r_2 u_1 H9 locs9 hz O => ?_)
  replace hf := hf _ _ hz
  have hb := hb.cl (u1 := u_1) hm (by rw [hz]; rfl)
  obtain ⟨hk, hf⟩ := ck_s hf
  refine lv_astore_n (lv' := [(1, .ref r_2), (0, .ref ((hC hs) 24 v 0))]) hx hy dX7_all_4 rfl hl (by decide) rfl (fun ls hl => ?_)
  exact w_C_X7_all_b5 X K hE htr0 htab hdO hO _ _ _ hk ls _ _ _ _ O hb (lv_sub hl [1, 0] rfl) hf
theorem hdV_X7_all : yX7_all.cls = RX7 ∧ (yX7_all.cls ≠ "java/lang/invoke/MethodHandle" ∧ yX7_all.cls ≠ "java/lang/invoke/VarHandle" ∧ (parseMethodDescriptor yX7_all.desc).map (fun d => d.parameters.length) = some 0) := by decide +kernel
def C_X7_any_b5 (fA : PS → Option (RX Nat)) (v : Nat) : Nat → PS → Nat → Option (RX Nat)
  | 0, _, _ => none
  | n + 1, u, x1 =>
    (if (gI u.2.2 24 v 0 3) = 4 then bn1 (C_X7_next u.1 v u.2.2) (fun σ_4 => lt1 (pss u σ_4) (fun u_2 => nwx u_2 23 11 (fun u_5 => bnx u_5 (fA u_5) (fun u_7 r_8 => ck (okC u_7.1 24 v 0) (ck (decide (u_7.1 23 u_2.2.1 = some 11)) (lt1 (pss u_7 (C_X13_init u_2.2.1 u_7.2.2 x1 4 r_8)) (fun u_9 => (C_X7_any_b5 fA v n) u_9 u_2.2.1))))))) else some (.inl (u, x1)))
theorem w_C_X7_any_b5 {adK adV : Nat → Nat} {e0 : Nat} {dO : Nat} {fA : PS → Option (RX Nat)} {v : Nat} (X : FX p m c meth s args RX7 cX7_any 2 (some (.object "NotchSticks$Term"))) (K : XK D d A s) (hE : ES adK adV e0 A s) (htr0 : l.stackTraces = false) (htab : ∀ x ∈ c.exceptionTable.toList, False) {z : RX Nat} (hdO : 11 ≤ dO) (hA : ∀ (u : PS) (z : RX Nat), okC u.1 24 v 0 = true → fA u = some z → YM l D d (ES adK adV e0) yX7_all cX7_all 2 (some (.object "NotchSticks$Term")) dO [.ref (hC hs 24 v 0)] hs u z (Yr D hs d z)) : ∀ (n : Nat) (u : PS) (x1 : Nat) (hk : okC u.1 24 v 0 = true) (ls : Array Slot) (H : Heap) (locs : List Loc) (cs sl : Nat), YH D A s.heap hs d u H locs → CB s u (rN z) cs sl → lv_has ls 2 [(0, .ref ((hC hs) 24 v 0)), (1, .ref x1)] → C_X7_any_b5 fA v n u x1 = some z → W p l e (rmD (dO + 1) (rN z - s.heap.size) (22 * (rN z - s.heap.size))) s m args below meth c H locs cs sl (vy_MQ below (Yr D hs d z A) (YX D hs d z A) args s (rN z - s.heap.size) (22 * (rN z - s.heap.size)) A) (F0 m 5 ls []) := by
  have hx := X.1.1; have hy := X.1.2.1
  intro n
  induction n with
  | zero =>
    intro u x1 hk ls H locs cs sl O hb hl hf
    exact absurd hf (fun q => by cases q)
  | succ n ih =>
    intro u x1 hk ls H locs cs sl O hb hl hf
    rw [C_X7_any_b5] at hf
    refine lv_aload_n hx hy dX7_any_5 rfl (lv_at hl 0 rfl) ?_
    refine x_gI X K O.1 3 hk LC_24 rfl rfl in_X7 (by decide) q461 dX7_any_6 ?_
    refine lv_iconst (v := 4) hx hy dX7_any_9 (by decide) ?_
    refine lv_icmp_ne (tgt := 34) hx hy dX7_any_10 (by decide) (fun c_1 => ?_) (fun c_1 => ?_)
    · replace hf := if_f c_1 hf
      refine lv_aload_n hx hy dX7_any_34 rfl (lv_at hl 1 rfl) ?_
      exact y_aret X O hb rfl (Or.inl ⟨_, rfl⟩) (Option.some.inj hf).symm dX7_any_35
    · replace hf := if_t c_1 hf
      refine lv_aload_n hx hy dX7_any_13 rfl (lv_at hl 0 rfl) ?_
      obtain ⟨σ_4, hg, hf⟩ := bn1_s hf
      obtain ⟨u_2, eu_2, hf⟩ := lt1_s hf
      refine x_callv (x_runV (As := []) (rest := []) X K O.1 (xct_obj hk LC_24) rfl (m_C_X7_next hk hg) ES_b (ES_h hE) (lw_V q486 q488 qs4 q125 q489) 0 rfl hl.1 (Nat.le_of_ble_eq_true rfl) hdV_X7_next ⟨(by omega), by decide⟩ hb.r dX7_any_14) (fun _ H9 locs9 hp O9 hle => ?_)
      refine W.sz (fun hz => ?_)
      cases hp
      have O := O.call O9 hle hb hz
      rw [← eu_2] at O
      have hb := hb.mv eu_2
      have hk : okC u_2.1 24 v 0 = true := by rw [eu_2]; exact hk
      obtain ⟨hm, u_5, eu_5, hf⟩ := nwx_s hf
      refine y_new_X13 X K O hb hm q730 dX7_any_17 (fun H9 O9 => ?_)
      have hb := (hb.al (N := 3) hm (by decide)).ev eu_5
      have hk : okC u_5.1 24 v 0 = true := by rw [eu_5]; exact okC_al (by decide) hk
      have O := O9
      rw [← eu_5] at O
      have kq_6 : u_5.1 23 u_2.2.1 = some 11 := by rw [eu_5]; exact dup_self
      refine lv_dup hx hy dX7_any_20 rfl ?_
      refine lv_aload_n hx hy dX7_any_21 rfl (lv_at hl 1 rfl) ?_
      refine lv_iconst (v := 4) hx hy dX7_any_22 (by decide) ?_
      refine lv_aload_n hx hy dX7_any_23 rfl (lv_at hl 0 rfl) ?_
      obtain ⟨zz, hg, hm, hX, hf⟩ := bnx_s hf
      refine y_callr htab X.2.2 (y_runV (As := []) (rest := [.int 4, .ref x1, .ref ((hC hs) 23 u_2.2.1 0), .ref ((hC hs) 23 u_2.2.1 0)]) X K O (xct_obj hk LC_24) rfl (hA _ _ hk hg) ES_b (ES_h hE) (lw_V q669 q671 qs16 q125 q672) 0 rfl hl.1 (Nat.le_of_ble_eq_true rfl) hdV_X7_all ⟨(by omega), by decide⟩ (hb.cr hm) dX7_any_24) hX (hb.cr hm) (fun r_8 u_7 H9 locs9 hz O => ?_)
      replace hf := hf _ _ hz
      have hb := hb.cl (u1 := u_7) hm (by rw [hz]; rfl)
      obtain ⟨hk, hf⟩ := ck_s hf
      obtain ⟨kq_6, hf⟩ := ck_s hf
      replace kq_6 := of_decide_eq_true kq_6
      obtain ⟨u_9, eu_9, hf⟩ := lt1_s hf
      refine x_callv (x_runI (ret' := none) (As := [.ref x1, .int 4, .ref r_8]) (rest := [.ref ((hC hs) 23 u_2.2.1 0)]) (bb := ((hC hs) 23 u_2.2.1 0)) X K O.1 (m_C_X13_init kq_6) EN_b EN_h q732 q733 q137 q734 rfl 3 rfl hl.1 (Nat.le_of_ble_eq_true rfl) hdS_X13_init ⟨(by omega), by decide⟩ hb.r dX7_any_27) (fun _ H9 locs9 hp O9 hle => ?_)
      refine W.sz (fun hz => ?_)
      cases hp
      have O := O.call O9 hle hb hz
      rw [← eu_9] at O
      have hb := hb.mv eu_9
      have hk : okC u_9.1 24 v 0 = true := by rw [eu_9]; exact hk
      have kq_6 : u_9.1 23 u_2.2.1 = some 11 := by rw [eu_9]; exact kq_6
      refine lv_astore_n (lv' := [(1, .ref ((hC hs) 23 u_2.2.1 0)), (0, .ref ((hC hs) 24 v 0))]) hx hy dX7_any_30 rfl hl (by decide) rfl (fun ls hl => ?_)
      refine lv_goto (tgt := 5) hx hy dX7_any_31 (by decide) ?_
      exact ih _ _ hk ls _ _ _ _ O hb (lv_sub hl [1, 0] rfl) hf
def C_X7_any (fA : PS → Option (RX Nat)) (v : Nat) (u : PS) : Option (RX Nat) :=
  ckm u (bnx u (fA u) (fun u_1 r_2 => ck (okC u_1.1 24 v 0) (C_X7_any_b5 fA v FUEL u_1 r_2)))
theorem m_C_X7_any {l : Launch} {D : va_G} {d : Nat → ClassId} {hs : IX} {adK adV : Nat → Nat} {e0 : Nat} {dO : Nat} {fA : PS → Option (RX Nat)} {v : Nat} {u : PS} {z : RX Nat} (htr0 : l.stackTraces = false) (hdO : 11 ≤ dO) (hA : ∀ (u : PS) (z : RX Nat), okC u.1 24 v 0 = true → fA u = some z → YM l D d (ES adK adV e0) yX7_all cX7_all 2 (some (.object "NotchSticks$Term")) dO [.ref (hC hs 24 v 0)] hs u z (Yr D hs d z)) (hk : okC u.1 24 v 0 = true) (hf : C_X7_any fA v u = some z) : YM l D d (ES adK adV e0) yX7_any cX7_any 2 (some (.object "NotchSticks$Term")) (dO + 1) [.ref ((hC hs) 24 v 0)] hs u z (Yr D hs d z) := by
  rw [C_X7_any] at hf
  obtain ⟨hm, hf⟩ := ckm_s hf
  refine YM.of2 hm (by decide +kernel) (Nat.le_of_ble_eq_true rfl) ?_
  intro p e s m below meth c A ls X htab K hE O hb hl
  have hl : lv_has ls 2 [(0, .ref ((hC hs) 24 v 0))] := hl
  have hx := X.1.1; have hy := X.1.2.1
  refine lv_aload_n hx hy dX7_any_0 rfl (lv_at hl 0 rfl) ?_
  obtain ⟨zz, hg, hm, hX, hf⟩ := bnx_s hf
  refine y_callr htab X.2.2 (y_runV (As := []) (rest := []) X K O (xct_obj hk LC_24) rfl (hA _ _ hk hg) ES_b (ES_h hE) (lw_V q669 q671 qs16 q125 q672) 0 rfl hl.1 (Nat.le_of_ble_eq_true rfl) hdV_X7_all ⟨(by omega), by decide⟩ (hb.cr hm) dX7_any_1) hX (hb.cr hm) (fun r_2 u_1 H9 locs9 hz O => ?_)
  replace hf := hf _ _ hz
  have hb := hb.cl (u1 := u_1) hm (by rw [hz]; rfl)
  obtain ⟨hk, hf⟩ := ck_s hf
  refine lv_astore_n (lv' := [(1, .ref r_2), (0, .ref ((hC hs) 24 v 0))]) hx hy dX7_any_4 rfl hl (by decide) rfl (fun ls hl => ?_)
  exact w_C_X7_any_b5 X K hE htr0 htab hdO hA _ _ _ hk ls _ _ _ _ O hb (lv_sub hl [1, 0] rfl) hf
theorem hdV_X7_any : yX7_any.cls = RX7 ∧ (yX7_any.cls ≠ "java/lang/invoke/MethodHandle" ∧ yX7_any.cls ≠ "java/lang/invoke/VarHandle" ∧ (parseMethodDescriptor yX7_any.desc).map (fun d => d.parameters.length) = some 0) := by decide +kernel
theorem hdV_X7_must : yX7_must.cls = RX7 ∧ (yX7_must.cls ≠ "java/lang/invoke/MethodHandle" ∧ yX7_must.cls ≠ "java/lang/invoke/VarHandle" ∧ (parseMethodDescriptor yX7_must.desc).map (fun d => d.parameters.length) = some 1) := by decide +kernel
theorem hdV_X7_opens : yX7_opens.cls = RX7 ∧ (yX7_opens.cls ≠ "java/lang/invoke/MethodHandle" ∧ yX7_opens.cls ≠ "java/lang/invoke/VarHandle" ∧ (parseMethodDescriptor yX7_opens.desc).map (fun d => d.parameters.length) = some 0) := by decide +kernel
theorem hdV_X7_sum : yX7_sum.cls = RX7 ∧ (yX7_sum.cls ≠ "java/lang/invoke/MethodHandle" ∧ yX7_sum.cls ≠ "java/lang/invoke/VarHandle" ∧ (parseMethodDescriptor yX7_sum.desc).map (fun d => d.parameters.length) = some 0) := by decide +kernel
def C_X7_one_b70 (fO : PS → Option (RX Nat)) (fY : PS → Option (RX Nat)) (v : Nat) (u : PS) (x2 : Nat) : Option (RX Nat) :=
  lt1 (pss u (sI u.2.2 24 v 0 5 ((gI u.2.2 24 v 0 5) - 1))) (fun u_1 => some (.inl (u_1, x2)))
theorem w_C_X7_one_b70 {adK adV : Nat → Nat} {e0 : Nat} {dO : Nat} {fO : PS → Option (RX Nat)} {fY : PS → Option (RX Nat)} {v : Nat} (X : FX p m c meth s args RX7 cX7_one 3 (some (.object "NotchSticks$Term"))) (K : XK D d A s) (hE : ES adK adV e0 A s) (htr0 : l.stackTraces = false) (htab : ∀ x ∈ c.exceptionTable.toList, False) {z : RX Nat} (hdO : 11 ≤ dO) (hO : ∀ (u : PS) (z : RX Nat), okC u.1 24 v 0 = true → fO u = some z → YM l D d (ES adK adV e0) yX7_one cX7_one 3 (some (.object "NotchSticks$Term")) dO [.ref (hC hs 24 v 0)] hs u z (Yr D hs d z)) (hY : ∀ (u : PS) (z : RX Nat), okC u.1 24 v 0 = true → fY u = some z → YM l D d (ES adK adV e0) yX7_any cX7_any 2 (some (.object "NotchSticks$Term")) (dO + 2) [.ref (hC hs 24 v 0)] hs u z (Yr D hs d z)) : ∀ (u : PS) (x2 : Nat) (hk : okC u.1 24 v 0 = true) (ls : Array Slot) (H : Heap) (locs : List Loc) (cs sl : Nat), YH D A s.heap hs d u H locs → CB s u (rN z) cs sl → lv_has ls 3 [(0, .ref ((hC hs) 24 v 0)), (2, .ref x2)] → C_X7_one_b70 fO fY v u x2 = some z → W p l e (rmD (dO + 3) (rN z - s.heap.size) (22 * (rN z - s.heap.size))) s m args below meth c H locs cs sl (vy_MQ below (Yr D hs d z A) (YX D hs d z A) args s (rN z - s.heap.size) (22 * (rN z - s.heap.size)) A) (F0 m 70 ls []) := by
  have hx := X.1.1; have hy := X.1.2.1
  intro u x2 hk ls H locs cs sl O hb hl hf
  rw [C_X7_one_b70] at hf
  refine lv_aload_n hx hy dX7_one_70 rfl (lv_at hl 0 rfl) ?_
  refine lv_dup hx hy dX7_one_71 rfl ?_
  refine x_gI X K O.1 5 hk LC_24 rfl rfl in_X7 (by decide) q463 dX7_one_72 ?_
  refine lv_iconst (v := 1) hx hy dX7_one_75 (by decide) ?_
  refine lv_isub hx hy dX7_one_76 ?_
  obtain ⟨u_1, eu_1, hf⟩ := lt1_s hf
  refine x_pI X K O.1.self 5 hk LC_24 rfl rfl in_X7 tyX7_ok nmX7 (by decide) q463 rfl rfl rfl dX7_one_77 (fun H9 locs9 O9 => ?_)
  refine W.sz (fun hz => ?_)
  have O := O.put O9 hb hz
  rw [← eu_1] at O
  have hb := hb.mv eu_1
  have hk : okC u_1.1 24 v 0 = true := by rw [eu_1]; exact hk
  refine lv_aload_n hx hy dX7_one_80 rfl (lv_at hl 1 rfl) ?_
  exact y_aret X O hb rfl (Or.inl ⟨_, rfl⟩) (Option.some.inj hf).symm dX7_one_81
def C_X7_one_b59 (fO : PS → Option (RX Nat)) (fY : PS → Option (RX Nat)) (v : Nat) (u : PS) (x1 : Int32) (s0 : Nat) : Option (RX Nat) :=
  (if x1 = 0 then bnx u (C_X7_must v u 41) (fun u_2 _ => ck (okC u_2.1 24 v 0) (C_X7_one_b70 fO fY v u_2 s0)) else C_X7_one_b70 fO fY v u s0)
theorem w_C_X7_one_b59 {adK adV : Nat → Nat} {e0 : Nat} {dO : Nat} {fO : PS → Option (RX Nat)} {fY : PS → Option (RX Nat)} {v : Nat} (X : FX p m c meth s args RX7 cX7_one 3 (some (.object "NotchSticks$Term"))) (K : XK D d A s) (hE : ES adK adV e0 A s) (htr0 : l.stackTraces = false) (htab : ∀ x ∈ c.exceptionTable.toList, False) {z : RX Nat} (hdO : 11 ≤ dO) (hO : ∀ (u : PS) (z : RX Nat), okC u.1 24 v 0 = true → fO u = some z → YM l D d (ES adK adV e0) yX7_one cX7_one 3 (some (.object "NotchSticks$Term")) dO [.ref (hC hs 24 v 0)] hs u z (Yr D hs d z)) (hY : ∀ (u : PS) (z : RX Nat), okC u.1 24 v 0 = true → fY u = some z → YM l D d (ES adK adV e0) yX7_any cX7_any 2 (some (.object "NotchSticks$Term")) (dO + 2) [.ref (hC hs 24 v 0)] hs u z (Yr D hs d z)) : ∀ (u : PS) (x1 : Int32) (s0 : Nat) (hk : okC u.1 24 v 0 = true) (ls : Array Slot) (H : Heap) (locs : List Loc) (cs sl : Nat), YH D A s.heap hs d u H locs → CB s u (rN z) cs sl → lv_has ls 3 [(0, .ref ((hC hs) 24 v 0)), (1, .int x1)] → C_X7_one_b59 fO fY v u x1 s0 = some z → W p l e (rmD (dO + 3) (rN z - s.heap.size) (22 * (rN z - s.heap.size))) s m args below meth c H locs cs sl (vy_MQ below (Yr D hs d z A) (YX D hs d z A) args s (rN z - s.heap.size) (22 * (rN z - s.heap.size)) A) (F0 m 59 ls [.ref s0]) := by
  have hx := X.1.1; have hy := X.1.2.1
  intro u x1 s0 hk ls H locs cs sl O hb hl hf
  rw [C_X7_one_b59] at hf
  refine lv_astore_n (lv' := [(2, .ref s0), (0, .ref ((hC hs) 24 v 0)), (1, .int x1)]) hx hy dX7_one_59 rfl hl (by decide) rfl (fun ls hl => ?_)
  refine lv_iload_n hx hy dX7_one_60 rfl (lv_at hl 2 rfl) ?_
  refine lv_if_ne (tgt := 70) hx hy dX7_one_61 (by decide) (fun c_1 => ?_) (fun c_1 => ?_)
  · replace hf := if_f c_1 hf
    exact w_C_X7_one_b70 X K hE htr0 htab hdO hO hY _ _ hk ls _ _ _ _ O hb (lv_sub hl [1, 0] rfl) hf
  · replace hf := if_t c_1 hf
    refine lv_aload_n hx hy dX7_one_64 rfl (lv_at hl 1 rfl) ?_
    refine lv_bipush (v := 41) hx hy dX7_one_65 (by decide) ?_
    obtain ⟨zz, hg, hm, hX, hf⟩ := bnx_s hf
    refine y_callv htab X.2.2 (y_runV (As := [.int 41]) (rest := []) X K O (xct_obj hk LC_24) rfl (m_C_X7_must htr0 hk hg) ES_b (ES_h hE) (lw_V q661 q663 qs14 q125 q664) 1 rfl hl.1 (Nat.le_of_ble_eq_true rfl) hdV_X7_must ⟨(by omega), by decide⟩ (hb.cr hm) dX7_one_67) hX (hb.cr hm) (fun u_2 H9 locs9 hz O => ?_)
    replace hf := hf _ _ hz
    have hb := hb.cl (u1 := u_2) hm (by rw [hz]; rfl)
    obtain ⟨hk, hf⟩ := ck_s hf
    exact w_C_X7_one_b70 X K hE htr0 htab hdO hO hY _ _ hk ls _ _ _ _ O hb (lv_sub hl [1, 0] rfl) hf
def C_X7_one_b32 (fO : PS → Option (RX Nat)) (fY : PS → Option (RX Nat)) (v : Nat) (u : PS) (s0 : Int32) : Option (RX Nat) :=
  bnx u (C_X7_opens v u) (fun u_1 _ => ck (okC u_1.1 24 v 0) ((if s0 = 0 then bnx u_1 (fY u_1) (fun u_4 r_5 => ck (okC u_4.1 24 v 0) (C_X7_one_b59 fO fY v u_4 s0 r_5)) else nwx u_1 23 8 (fun u_6 => bnx u_6 (fO u_6) (fun u_8 r_9 => ck (okC u_8.1 24 v 0) (ck (decide (u_8.1 23 u_1.2.1 = some 8)) (lt1 (pss u_8 (C_X10_init u_1.2.1 u_8.2.2 r_9)) (fun u_10 => C_X7_one_b59 fO fY v u_10 s0 u_1.2.1))))))))
theorem w_C_X7_one_b32 {adK adV : Nat → Nat} {e0 : Nat} {dO : Nat} {fO : PS → Option (RX Nat)} {fY : PS → Option (RX Nat)} {v : Nat} (X : FX p m c meth s args RX7 cX7_one 3 (some (.object "NotchSticks$Term"))) (K : XK D d A s) (hE : ES adK adV e0 A s) (htr0 : l.stackTraces = false) (htab : ∀ x ∈ c.exceptionTable.toList, False) {z : RX Nat} (hdO : 11 ≤ dO) (hO : ∀ (u : PS) (z : RX Nat), okC u.1 24 v 0 = true → fO u = some z → YM l D d (ES adK adV e0) yX7_one cX7_one 3 (some (.object "NotchSticks$Term")) dO [.ref (hC hs 24 v 0)] hs u z (Yr D hs d z)) (hY : ∀ (u : PS) (z : RX Nat), okC u.1 24 v 0 = true → fY u = some z → YM l D d (ES adK adV e0) yX7_any cX7_any 2 (some (.object "NotchSticks$Term")) (dO + 2) [.ref (hC hs 24 v 0)] hs u z (Yr D hs d z)) : ∀ (u : PS) (s0 : Int32) (hk : okC u.1 24 v 0 = true) (ls : Array Slot) (H : Heap) (locs : List Loc) (cs sl : Nat), YH D A s.heap hs d u H locs → CB s u (rN z) cs sl → lv_has ls 3 [(0, .ref ((hC hs) 24 v 0))] → C_X7_one_b32 fO fY v u s0 = some z → W p l e (rmD (dO + 3) (rN z - s.heap.size) (22 * (rN z - s.heap.size))) s m args below meth c H locs cs sl (vy_MQ below (Yr D hs d z A) (YX D hs d z A) args s (rN z - s.heap.size) (22 * (rN z - s.heap.size)) A) (F0 m 32 ls [.int s0]) := by
  have hx := X.1.1; have hy := X.1.2.1
  intro u s0 hk ls H locs cs sl O hb hl hf
  rw [C_X7_one_b32] at hf
  refine lv_istore_n (lv' := [(1, .int s0), (0, .ref ((hC hs) 24 v 0))]) hx hy dX7_one_32 rfl hl (by decide) rfl (fun ls hl => ?_)
  refine lv_aload_n hx hy dX7_one_33 rfl (lv_at hl 1 rfl) ?_
  obtain ⟨zz, hg, hm, hX, hf⟩ := bnx_s hf
  refine y_callv htab X.2.2 (y_runV (As := []) (rest := []) X K O (xct_obj hk LC_24) rfl (m_C_X7_opens htr0 hk hg) ES_b (ES_h hE) (lw_V q677 q679 qs18 q125 q680) 0 rfl hl.1 (Nat.le_of_ble_eq_true rfl) hdV_X7_opens ⟨(by omega), by decide⟩ (hb.cr hm) dX7_one_34) hX (hb.cr hm) (fun u_1 H9 locs9 hz O => ?_)
  replace hf := hf _ _ hz
  have hb := hb.cl (u1 := u_1) hm (by rw [hz]; rfl)
  obtain ⟨hk, hf⟩ := ck_s hf
  refine lv_iload_n hx hy dX7_one_37 rfl (lv_at hl 0 rfl) ?_
  refine lv_if_eq (tgt := 55) hx hy dX7_one_38 (by decide) (fun c_3 => ?_) (fun c_3 => ?_)
  · replace hf := if_t c_3 hf
    refine lv_aload_n hx hy dX7_one_55 rfl (lv_at hl 1 rfl) ?_
    obtain ⟨zz, hg, hm, hX, hf⟩ := bnx_s hf
    refine y_callr htab X.2.2 (y_runV (As := []) (rest := []) X K O (xct_obj hk LC_24) rfl (hY _ _ hk hg) ES_b (ES_h hE) (lw_V q665 q667 qs15 q125 q668) 0 rfl hl.1 (Nat.le_of_ble_eq_true rfl) hdV_X7_any ⟨(by omega), by decide⟩ (hb.cr hm) dX7_one_56) hX (hb.cr hm) (fun r_5 u_4 H9 locs9 hz O => ?_)
    replace hf := hf _ _ hz
    have hb := hb.cl (u1 := u_4) hm (by rw [hz]; rfl)
    obtain ⟨hk, hf⟩ := ck_s hf
    exact w_C_X7_one_b59 X K hE htr0 htab hdO hO hY _ _ _ hk ls _ _ _ _ O hb (lv_sub hl [1, 0] rfl) hf
  · replace hf := if_f c_3 hf
    obtain ⟨hm, u_6, eu_6, hf⟩ := nwx_s hf
    refine y_new_X10 X K O hb hm q681 dX7_one_41 (fun H9 O9 => ?_)
    have hb := (hb.al (N := 1) hm (by decide)).ev eu_6
    have hk : okC u_6.1 24 v 0 = true := by rw [eu_6]; exact okC_al (by decide) hk
    have O := O9
    rw [← eu_6] at O
    have kq_7 : u_6.1 23 u_1.2.1 = some 8 := by rw [eu_6]; exact dup_self
    refine lv_dup hx hy dX7_one_44 rfl ?_
    refine lv_aload_n hx hy dX7_one_45 rfl (lv_at hl 1 rfl) ?_
    obtain ⟨zz, hg, hm, hX, hf⟩ := bnx_s hf
    refine y_callr htab X.2.2 (y_runV (As := []) (rest := [.ref ((hC hs) 23 u_1.2.1 0), .ref ((hC hs) 23 u_1.2.1 0)]) X K O (xct_obj hk LC_24) rfl (hO _ _ hk hg) ES_b (ES_h hE) (lw_V q673 q675 qs17 q125 q676) 0 rfl hl.1 (Nat.le_of_ble_eq_true rfl) hdV_X7_one ⟨(by omega), by decide⟩ (hb.cr hm) dX7_one_46) hX (hb.cr hm) (fun r_9 u_8 H9 locs9 hz O => ?_)
    replace hf := hf _ _ hz
    have hb := hb.cl (u1 := u_8) hm (by rw [hz]; rfl)
    obtain ⟨hk, hf⟩ := ck_s hf
    obtain ⟨kq_7, hf⟩ := ck_s hf
    replace kq_7 := of_decide_eq_true kq_7
    obtain ⟨u_10, eu_10, hf⟩ := lt1_s hf
    refine x_callv (x_runI (ret' := none) (As := [.ref r_9]) (rest := [.ref ((hC hs) 23 u_1.2.1 0)]) (bb := ((hC hs) 23 u_1.2.1 0)) X K O.1 (m_C_X10_init kq_7) EN_b EN_h q683 q684 q134 q685 rfl 1 rfl hl.1 (Nat.le_of_ble_eq_true rfl) hdS_X10_init ⟨(by omega), by decide⟩ hb.r dX7_one_49) (fun _ H9 locs9 hp O9 hle => ?_)
    refine W.sz (fun hz => ?_)
    cases hp
    have O := O.call O9 hle hb hz
    rw [← eu_10] at O
    have hb := hb.mv eu_10
    have hk : okC u_10.1 24 v 0 = true := by rw [eu_10]; exact hk
    have kq_7 : u_10.1 23 u_1.2.1 = some 8 := by rw [eu_10]; exact kq_7
    refine lv_goto (tgt := 59) hx hy dX7_one_52 (by decide) ?_
    exact w_C_X7_one_b59 X K hE htr0 htab hdO hO hY _ _ _ hk ls _ _ _ _ O hb (lv_sub hl [1, 0] rfl) hf
def C_X7_one_b18 (fO : PS → Option (RX Nat)) (fY : PS → Option (RX Nat)) (v : Nat) (u : PS) : Option (RX Nat) :=
  (if (gI u.2.2 24 v 0 3) = 6 then C_X7_one_b32 fO fY v u 1 else C_X7_one_b32 fO fY v u 0)
theorem w_C_X7_one_b18 {adK adV : Nat → Nat} {e0 : Nat} {dO : Nat} {fO : PS → Option (RX Nat)} {fY : PS → Option (RX Nat)} {v : Nat} (X : FX p m c meth s args RX7 cX7_one 3 (some (.object "NotchSticks$Term"))) (K : XK D d A s) (hE : ES adK adV e0 A s) (htr0 : l.stackTraces = false) (htab : ∀ x ∈ c.exceptionTable.toList, False) {z : RX Nat} (hdO : 11 ≤ dO) (hO : ∀ (u : PS) (z : RX Nat), okC u.1 24 v 0 = true → fO u = some z → YM l D d (ES adK adV e0) yX7_one cX7_one 3 (some (.object "NotchSticks$Term")) dO [.ref (hC hs 24 v 0)] hs u z (Yr D hs d z)) (hY : ∀ (u : PS) (z : RX Nat), okC u.1 24 v 0 = true → fY u = some z → YM l D d (ES adK adV e0) yX7_any cX7_any 2 (some (.object "NotchSticks$Term")) (dO + 2) [.ref (hC hs 24 v 0)] hs u z (Yr D hs d z)) : ∀ (u : PS) (hk : okC u.1 24 v 0 = true) (ls : Array Slot) (H : Heap) (locs : List Loc) (cs sl : Nat), YH D A s.heap hs d u H locs → CB s u (rN z) cs sl → lv_has ls 3 [(0, .ref ((hC hs) 24 v 0))] → C_X7_one_b18 fO fY v u = some z → W p l e (rmD (dO + 3) (rN z - s.heap.size) (22 * (rN z - s.heap.size))) s m args below meth c H locs cs sl (vy_MQ below (Yr D hs d z A) (YX D hs d z A) args s (rN z - s.heap.size) (22 * (rN z - s.heap.size)) A) (F0 m 18 ls []) := by
  have hx := X.1.1; have hy := X.1.2.1
  intro u hk ls H locs cs sl O hb hl hf
  rw [C_X7_one_b18] at hf
  refine lv_aload_n hx hy dX7_one_18 rfl (lv_at hl 0 rfl) ?_
  refine x_gI X K O.1 3 hk LC_24 rfl rfl in_X7 (by decide) q461 dX7_one_19 ?_
  refine lv_bipush (v := 6) hx hy dX7_one_22 (by decide) ?_
  refine lv_icmp_ne (tgt := 31) hx hy dX7_one_24 (by decide) (fun c_1 => ?_) (fun c_1 => ?_)
  · replace hf := if_f c_1 hf
    refine lv_iconst (v := 0) hx hy dX7_one_31 (by decide) ?_
    exact w_C_X7_one_b32 X K hE htr0 htab hdO hO hY _ _ hk ls _ _ _ _ O hb (lv_sub hl [0] rfl) hf
  · replace hf := if_t c_1 hf
    refine lv_iconst (v := 1) hx hy dX7_one_27 (by decide) ?_
    refine lv_goto (tgt := 32) hx hy dX7_one_28 (by decide) ?_
    exact w_C_X7_one_b32 X K hE htr0 htab hdO hO hY _ _ hk ls _ _ _ _ O hb (lv_sub hl [0] rfl) hf
def C_X7_one_b123 (fO : PS → Option (RX Nat)) (fY : PS → Option (RX Nat)) (v : Nat) (u : PS) (x1 : Nat) (x2 : Int32) : Option (RX Nat) :=
  bn1 (C_X7_next u.1 v u.2.2) (fun σ_3 => lt1 (pss u σ_3) (fun u_1 => nwx u_1 23 11 (fun u_4 => bnx u_4 (C_X7_sum v u_4) (fun u_6 r_7 => ck (okC u_6.1 24 v 0) (ck (decide (u_6.1 23 u_1.2.1 = some 11)) (lt1 (pss u_6 (C_X13_init u_1.2.1 u_6.2.2 x1 x2 r_7)) (fun u_8 => some (.inl (u_8, u_1.2.1)))))))))
theorem w_C_X7_one_b123 {adK adV : Nat → Nat} {e0 : Nat} {dO : Nat} {fO : PS → Option (RX Nat)} {fY : PS → Option (RX Nat)} {v : Nat} (X : FX p m c meth s args RX7 cX7_one 3 (some (.object "NotchSticks$Term"))) (K : XK D d A s) (hE : ES adK adV e0 A s) (htr0 : l.stackTraces = false) (htab : ∀ x ∈ c.exceptionTable.toList, False) {z : RX Nat} (hdO : 11 ≤ dO) (hO : ∀ (u : PS) (z : RX Nat), okC u.1 24 v 0 = true → fO u = some z → YM l D d (ES adK adV e0) yX7_one cX7_one 3 (some (.object "NotchSticks$Term")) dO [.ref (hC hs 24 v 0)] hs u z (Yr D hs d z)) (hY : ∀ (u : PS) (z : RX Nat), okC u.1 24 v 0 = true → fY u = some z → YM l D d (ES adK adV e0) yX7_any cX7_any 2 (some (.object "NotchSticks$Term")) (dO + 2) [.ref (hC hs 24 v 0)] hs u z (Yr D hs d z)) : ∀ (u : PS) (x1 : Nat) (x2 : Int32) (hk : okC u.1 24 v 0 = true) (ls : Array Slot) (H : Heap) (locs : List Loc) (cs sl : Nat), YH D A s.heap hs d u H locs → CB s u (rN z) cs sl → lv_has ls 3 [(0, .ref ((hC hs) 24 v 0)), (1, .ref x1), (2, .int x2)] → C_X7_one_b123 fO fY v u x1 x2 = some z → W p l e (rmD (dO + 3) (rN z - s.heap.size) (22 * (rN z - s.heap.size))) s m args below meth c H locs cs sl (vy_MQ below (Yr D hs d z A) (YX D hs d z A) args s (rN z - s.heap.size) (22 * (rN z - s.heap.size)) A) (F0 m 123 ls []) := by
  have hx := X.1.1; have hy := X.1.2.1
  intro u x1 x2 hk ls H locs cs sl O hb hl hf
  rw [C_X7_one_b123] at hf
  refine lv_aload_n hx hy dX7_one_123 rfl (lv_at hl 0 rfl) ?_
  obtain ⟨σ_3, hg, hf⟩ := bn1_s hf
  obtain ⟨u_1, eu_1, hf⟩ := lt1_s hf
  refine x_callv (x_runV (As := []) (rest := []) X K O.1 (xct_obj hk LC_24) rfl (m_C_X7_next hk hg) ES_b (ES_h hE) (lw_V q486 q488 qs4 q125 q489) 0 rfl hl.1 (Nat.le_of_ble_eq_true rfl) hdV_X7_next ⟨(by omega), by decide⟩ hb.r dX7_one_124) (fun _ H9 locs9 hp O9 hle => ?_)
  refine W.sz (fun hz => ?_)
  cases hp
  have O := O.call O9 hle hb hz
  rw [← eu_1] at O
  have hb := hb.mv eu_1
  have hk : okC u_1.1 24 v 0 = true := by rw [eu_1]; exact hk
  obtain ⟨hm, u_4, eu_4, hf⟩ := nwx_s hf
  refine y_new_X13 X K O hb hm q730 dX7_one_127 (fun H9 O9 => ?_)
  have hb := (hb.al (N := 3) hm (by decide)).ev eu_4
  have hk : okC u_4.1 24 v 0 = true := by rw [eu_4]; exact okC_al (by decide) hk
  have O := O9
  rw [← eu_4] at O
  have kq_5 : u_4.1 23 u_1.2.1 = some 11 := by rw [eu_4]; exact dup_self
  refine lv_dup hx hy dX7_one_130 rfl ?_
  refine lv_aload_n hx hy dX7_one_131 rfl (lv_at hl 1 rfl) ?_
  refine lv_iload_n hx hy dX7_one_132 rfl (lv_at hl 2 rfl) ?_
  refine lv_aload_n hx hy dX7_one_133 rfl (lv_at hl 0 rfl) ?_
  obtain ⟨zz, hg, hm, hX, hf⟩ := bnx_s hf
  refine y_callr htab X.2.2 (y_runV (As := []) (rest := [.int x2, .ref x1, .ref ((hC hs) 23 u_1.2.1 0), .ref ((hC hs) 23 u_1.2.1 0)]) X K O (xct_obj hk LC_24) rfl (m_C_X7_sum htr0 hk hg) ES_b (ES_h hE) (lw_V q694 q696 qs19 q125 q697) 0 rfl hl.1 (Nat.le_of_ble_eq_true rfl) hdV_X7_sum ⟨(by omega), by decide⟩ (hb.cr hm) dX7_one_134) hX (hb.cr hm) (fun r_7 u_6 H9 locs9 hz O => ?_)
  replace hf := hf _ _ hz
  have hb := hb.cl (u1 := u_6) hm (by rw [hz]; rfl)
  obtain ⟨hk, hf⟩ := ck_s hf
  obtain ⟨kq_5, hf⟩ := ck_s hf
  replace kq_5 := of_decide_eq_true kq_5
  obtain ⟨u_8, eu_8, hf⟩ := lt1_s hf
  refine x_callv (x_runI (ret' := none) (As := [.ref x1, .int x2, .ref r_7]) (rest := [.ref ((hC hs) 23 u_1.2.1 0)]) (bb := ((hC hs) 23 u_1.2.1 0)) X K O.1 (m_C_X13_init kq_5) EN_b EN_h q732 q733 q137 q734 rfl 3 rfl hl.1 (Nat.le_of_ble_eq_true rfl) hdS_X13_init ⟨(by omega), by decide⟩ hb.r dX7_one_137) (fun _ H9 locs9 hp O9 hle => ?_)
  refine W.sz (fun hz => ?_)
  cases hp
  have O := O.call O9 hle hb hz
  rw [← eu_8] at O
  have hb := hb.mv eu_8
  have hk : okC u_8.1 24 v 0 = true := by rw [eu_8]; exact hk
  have kq_5 : u_8.1 23 u_1.2.1 = some 11 := by rw [eu_8]; exact kq_5
  exact y_aret X O hb rfl (Or.inl ⟨_, rfl⟩) (Option.some.inj hf).symm dX7_one_140
def C_X7_one (fO : PS → Option (RX Nat)) (fY : PS → Option (RX Nat)) (v : Nat) (u : PS) : Option (RX Nat) :=
  ckm u ((if (gI u.2.2 24 v 0 3) = 6 then C_X7_one_b18 fO fY v u else (if (gI u.2.2 24 v 0 3) = 40 then C_X7_one_b18 fO fY v u else bnx u (C_X7_sum v u) (fun u_3 r_4 => ck (okC u_3.1 24 v 0) (lt1 (gI u_3.2.2 24 v 0 3) (fun x2_5 => (if x2_5 = 60 then C_X7_one_b123 fO fY v u_3 r_4 x2_5 else (if x2_5 = 61 then C_X7_one_b123 fO fY v u_3 r_4 x2_5 else (if x2_5 = 62 then C_X7_one_b123 fO fY v u_3 r_4 x2_5 else some (.inr (bmp u_3, 1, gI u_3.2.2 24 v 0 2)))))))))))
theorem m_C_X7_one {l : Launch} {D : va_G} {d : Nat → ClassId} {hs : IX} {adK adV : Nat → Nat} {e0 : Nat} {dO : Nat} {fO : PS → Option (RX Nat)} {fY : PS → Option (RX Nat)} {v : Nat} {u : PS} {z : RX Nat} (htr0 : l.stackTraces = false) (hdO : 11 ≤ dO) (hO : ∀ (u : PS) (z : RX Nat), okC u.1 24 v 0 = true → fO u = some z → YM l D d (ES adK adV e0) yX7_one cX7_one 3 (some (.object "NotchSticks$Term")) dO [.ref (hC hs 24 v 0)] hs u z (Yr D hs d z)) (hY : ∀ (u : PS) (z : RX Nat), okC u.1 24 v 0 = true → fY u = some z → YM l D d (ES adK adV e0) yX7_any cX7_any 2 (some (.object "NotchSticks$Term")) (dO + 2) [.ref (hC hs 24 v 0)] hs u z (Yr D hs d z)) (hk : okC u.1 24 v 0 = true) (hf : C_X7_one fO fY v u = some z) : YM l D d (ES adK adV e0) yX7_one cX7_one 3 (some (.object "NotchSticks$Term")) (dO + 3) [.ref ((hC hs) 24 v 0)] hs u z (Yr D hs d z) := by
  rw [C_X7_one] at hf
  obtain ⟨hm, hf⟩ := ckm_s hf
  refine YM.of2 hm (by decide +kernel) (Nat.le_of_ble_eq_true rfl) ?_
  intro p e s m below meth c A ls X htab K hE O hb hl
  have hl : lv_has ls 3 [(0, .ref ((hC hs) 24 v 0))] := hl
  have hx := X.1.1; have hy := X.1.2.1
  refine lv_aload_n hx hy dX7_one_0 rfl (lv_at hl 0 rfl) ?_
  refine x_gI X K O.1 3 hk LC_24 rfl rfl in_X7 (by decide) q461 dX7_one_1 ?_
  refine lv_bipush (v := 6) hx hy dX7_one_4 (by decide) ?_
  refine lv_icmp_eq (tgt := 18) hx hy dX7_one_6 (by decide) (fun c_1 => ?_) (fun c_1 => ?_)
  · replace hf := if_t c_1 hf
    exact w_C_X7_one_b18 X K hE htr0 htab hdO hO hY _ hk ls _ _ _ _ O hb (lv_sub hl [0] rfl) hf
  · replace hf := if_f c_1 hf
    refine lv_aload_n hx hy dX7_one_9 rfl (lv_at hl 0 rfl) ?_
    refine x_gI X K O.1 3 hk LC_24 rfl rfl in_X7 (by decide) q461 dX7_one_10 ?_
    refine lv_bipush (v := 40) hx hy dX7_one_13 (by decide) ?_
    refine lv_icmp_ne (tgt := 82) hx hy dX7_one_15 (by decide) (fun c_2 => ?_) (fun c_2 => ?_)
    · replace hf := if_f c_2 hf
      refine lv_aload_n hx hy dX7_one_82 rfl (lv_at hl 0 rfl) ?_
      obtain ⟨zz, hg, hm, hX, hf⟩ := bnx_s hf
      refine y_callr htab X.2.2 (y_runV (As := []) (rest := []) X K O (xct_obj hk LC_24) rfl (m_C_X7_sum htr0 hk hg) ES_b (ES_h hE) (lw_V q694 q696 qs19 q125 q697) 0 rfl hl.1 (Nat.le_of_ble_eq_true rfl) hdV_X7_sum ⟨(by omega), by decide⟩ (hb.cr hm) dX7_one_83) hX (hb.cr hm) (fun r_4 u_3 H9 locs9 hz O => ?_)
      replace hf := hf _ _ hz
      have hb := hb.cl (u1 := u_3) hm (by rw [hz]; rfl)
      obtain ⟨hk, hf⟩ := ck_s hf
      refine lv_astore_n (lv' := [(1, .ref r_4), (0, .ref ((hC hs) 24 v 0))]) hx hy dX7_one_86 rfl hl (by decide) rfl (fun ls hl => ?_)
      refine lv_aload_n hx hy dX7_one_87 rfl (lv_at hl 1 rfl) ?_
      refine x_gI X K O.1 3 hk LC_24 rfl rfl in_X7 (by decide) q461 dX7_one_88 ?_
      obtain ⟨x2_5, ex2_5, hf⟩ := lt1_s hf
      refine x_top (w := .int x2_5) (by rw [ex2_5]) ?_
      refine lv_istore_n (lv' := [(2, .int x2_5), (1, .ref r_4), (0, .ref ((hC hs) 24 v 0))]) hx hy dX7_one_91 rfl hl (by decide) rfl (fun ls hl => ?_)
      refine lv_iload_n hx hy dX7_one_92 rfl (lv_at hl 0 rfl) ?_
      refine lv_bipush (v := 60) hx hy dX7_one_93 (by decide) ?_
      refine lv_icmp_eq (tgt := 123) hx hy dX7_one_95 (by decide) (fun c_6 => ?_) (fun c_6 => ?_)
      · replace hf := if_t c_6 hf
        exact w_C_X7_one_b123 X K hE htr0 htab hdO hO hY _ _ _ hk ls _ _ _ _ O hb (lv_sub hl [2, 1, 0] rfl) hf
      · replace hf := if_f c_6 hf
        refine lv_iload_n hx hy dX7_one_98 rfl (lv_at hl 0 rfl) ?_
        refine lv_bipush (v := 61) hx hy dX7_one_99 (by decide) ?_
        refine lv_icmp_eq (tgt := 123) hx hy dX7_one_101 (by decide) (fun c_7 => ?_) (fun c_7 => ?_)
        · replace hf := if_t c_7 hf
          exact w_C_X7_one_b123 X K hE htr0 htab hdO hO hY _ _ _ hk ls _ _ _ _ O hb (lv_sub hl [2, 1, 0] rfl) hf
        · replace hf := if_f c_7 hf
          refine lv_iload_n hx hy dX7_one_104 rfl (lv_at hl 0 rfl) ?_
          refine lv_bipush (v := 62) hx hy dX7_one_105 (by decide) ?_
          refine lv_icmp_eq (tgt := 123) hx hy dX7_one_107 (by decide) (fun c_8 => ?_) (fun c_8 => ?_)
          · replace hf := if_t c_8 hf
            exact w_C_X7_one_b123 X K hE htr0 htab hdO hO hY _ _ _ hk ls _ _ _ _ O hb (lv_sub hl [2, 1, 0] rfl) hf
          · replace hf := if_f c_8 hf
            exact y_throw2 (k := 1) (ki := 1) X K hE htr0 htab O hb hk hl (kk := 2) rfl rfl (by omega) (Option.some.inj hf).symm dX7_one_110 dX7_one_113 dX7_one_114 dX7_one_115 dX7_one_116 dX7_one_119 dX7_one_122
    · replace hf := if_t c_2 hf
      exact w_C_X7_one_b18 X K hE htr0 htab hdO hO hY _ hk ls _ _ _ _ O hb (lv_sub hl [0] rfl) hf
/-- the parser of conditions, by fuel -/
def P_one (v : Nat) : Nat → PS → Option (RX Nat)
  | 0, _ => none
  | F + 1, u => C_X7_one (P_one v F) (fun u => C_X7_any (fun u => C_X7_all (P_one v F) v u) v u) v u
def P_all (v F : Nat) (u : PS) : Option (RX Nat) := C_X7_all (P_one v F) v u
def P_any (v F : Nat) (u : PS) : Option (RX Nat) := C_X7_any (P_all v F) v u
theorem m_P_one {adK adV : Nat → Nat} {e0 v : Nat} (htr0 : l.stackTraces = false) : ∀ (F : Nat) (u : PS) (z : RX Nat), okC u.1 24 v 0 = true → P_one v F u = some z → YM l D d (ES adK adV e0) yX7_one cX7_one 3 (some (.object "NotchSticks$Term")) (11 + 3 * F) [.ref (hC hs 24 v 0)] hs u z (Yr D hs d z) := by
  intro F
  induction F with
  | zero => intro u z _ hf; exact absurd hf (fun q => by cases q)
  | succ F ih =>
    intro u z hk hf
    rw [P_one] at hf
    have h9 := m_C_X7_one (hs := hs) (d := d) (D := D) (adK := adK) (adV := adV) (e0 := e0) (dO := 11 + 3 * F) htr0 (by omega) ih (fun u z hk hf => m_C_X7_any (dO := 11 + 3 * F + 1) htr0 (by omega) (fun u z hk hf => m_C_X7_all htr0 (by omega) ih hk hf) hk hf) hk hf
    rw [show 11 + 3 * (F + 1) = 11 + 3 * F + 3 by omega]
    exact h9
theorem m_P_any {adK adV : Nat → Nat} {e0 v : Nat} (htr0 : l.stackTraces = false) (F : Nat) (u : PS) (z : RX Nat) (hk : okC u.1 24 v 0 = true) (hf : P_any v F u = some z) : YM l D d (ES adK adV e0) yX7_any cX7_any 2 (some (.object "NotchSticks$Term")) (13 + 3 * F) [.ref (hC hs 24 v 0)] hs u z (Yr D hs d z) := by
  have h9 := m_C_X7_any (hs := hs) (d := d) (D := D) (adK := adK) (adV := adV) (e0 := e0) (dO := 11 + 3 * F + 1) htr0 (by omega) (fun u z hk hf => m_C_X7_all htr0 (by omega) (m_P_one htr0 F) hk hf) hk hf
  rw [show 13 + 3 * F = 11 + 3 * F + 1 + 1 by omega]
  exact h9
end YW
