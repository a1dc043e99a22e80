section YW
variable {p : Program} {l : Launch} {e : Env} {s : State} {m : MethodId} {args : Array Value} {below : List Frame} {meth : Method} {c : Code} {D : va_G} {A : Nat → Prop} {hs : IX} {d : Nat → ClassId}

def C_J5_copyOf_2_b24 (e0 : Nat) (p1 : Nat) (u : PS) (x1 : Int32) (s0 : Nat) : Option (RX Nat) :=
  ck (isA u.1 e0 p1) (ck (okC u.1 21 p1 0) (ck (okC u.1 21 s0 0) (ck (decide (¬ (imin (alen u.1 e0 p1) x1) < 0)) (ck (decide (Int32.toNatClampNeg (imin (alen u.1 e0 p1) x1) ≤ LC_21n u.1 p1)) (ck (decide (Int32.toNatClampNeg (imin (alen u.1 e0 p1) x1) ≤ LC_21n u.1 s0)) (ck (elsOk u p1 (Int32.toNatClampNeg (imin (alen u.1 e0 p1) x1))) (lt1 (pss u (cpR u.2.2 p1 s0 (Int32.toNatClampNeg (imin (alen u.1 e0 p1) x1)))) (fun u_2 => some (.inl (u_2, s0))))))))))
theorem w_C_J5_copyOf_2_b24 {adK adV : Nat → Nat} {e0 : Nat} {p1 : Nat} (X : FX p m c meth s args RJ5 cJ5_copyOf_2 4 (some (.array (.object "java/lang/Object")))) (K : XK D d A s) (hE : ES adK adV e0 A s) (htr0 : l.stackTraces = false) (htab : ∀ x ∈ c.exceptionTable.toList, False) {z : RX Nat} : ∀ (u : PS) (x1 : Int32) (s0 : Nat) (ls : Array Slot) (H : Heap) (locs : List Loc) (cs sl : Nat), YH D A s.heap hs d u H locs → CB s u (rN z) cs sl → lv_has ls 4 [(0, .ref p1), (1, .int x1)] → C_J5_copyOf_2_b24 e0 p1 u x1 s0 = some z → W p l e (rmD 5 (rN z - s.heap.size) (22 * (rN z - s.heap.size))) s m args below meth c H locs cs sl (vy_MQ below (Yr D hs d z A) (YX D hs d z A) args s (rN z - s.heap.size) (22 * (rN z - s.heap.size)) A) (F0 m 24 ls [.ref s0]) := by
  have hx := X.1.1; have hy := X.1.2.1
  intro u x1 s0 ls H locs cs sl O hb hl hf
  rw [C_J5_copyOf_2_b24] at hf
  refine lv_astore_n (lv' := [(3, .ref s0), (0, .ref p1), (1, .int x1)]) hx hy dJ5_copyOf_2_24 rfl hl (by decide) rfl (fun ls hl => ?_)
  refine lv_aload_n hx hy dJ5_copyOf_2_25 rfl (lv_at hl 1 rfl) ?_
  refine lv_iconst (v := 0) hx hy dJ5_copyOf_2_26 (by decide) ?_
  refine lv_aload_n hx hy dJ5_copyOf_2_27 rfl (lv_at hl 0 rfl) ?_
  refine lv_iconst (v := 0) hx hy dJ5_copyOf_2_28 (by decide) ?_
  refine lv_aload_n hx hy dJ5_copyOf_2_29 rfl (lv_at hl 1 rfl) ?_
  obtain ⟨c_1, hf⟩ := ck_s hf
  refine y_alen X K hE O c_1 dJ5_copyOf_2_30 ?_
  refine lv_iload_n hx hy dJ5_copyOf_2_31 rfl (lv_at hl 2 rfl) ?_
  refine va_mmin hx hy (X.1.2.2.1.trans hl.1.symm) X.1.2.2.2.1 (X.1.2.2.2.2 _ q229) (X.1.2.2.2.2 _ q230) (X.1.2.2.2.2 _ q116) (X.1.2.2.2.2 _ q231) (Nat.le_of_ble_eq_true rfl) (Nat.le_of_ble_eq_true rfl) hb.r.1 hb.r.2 dJ5_copyOf_2_32 ?_
  refine x_top (w := .int (imin (alen u.1 e0 p1) x1)) rfl ?_
  obtain ⟨c_3, hf⟩ := ck_s hf
  obtain ⟨c_4, hf⟩ := ck_s hf
  obtain ⟨c_5, hf⟩ := ck_s hf
  obtain ⟨c_6, hf⟩ := ck_s hf
  obtain ⟨c_7, hf⟩ := ck_s hf
  obtain ⟨c_8, hf⟩ := ck_s hf
  obtain ⟨u_2, eu_2, hf⟩ := lt1_s hf
  refine y_copy X K O hb c_3 c_4 (of_decide_eq_true c_5) (of_decide_eq_true c_6) (of_decide_eq_true c_7) c_8 q232 hl.1 (Nat.le_of_ble_eq_true rfl) (Nat.le_of_ble_eq_true rfl) dJ5_copyOf_2_35 (fun H9 locs9 O => ?_)
  rw [← eu_2] at O
  have hb := hb.mv eu_2
  refine lv_aload_n hx hy dJ5_copyOf_2_38 rfl (lv_at hl 0 rfl) ?_
  exact y_aret X O hb rfl (Or.inr ⟨_, rfl⟩) (Option.some.inj hf).symm dJ5_copyOf_2_39
def C_J5_copyOf_2 (e0 : Nat) (p1 : Nat) (u : PS) (p2 : Int32) : Option (RX Nat) :=
  ckm u (ck (decide (¬ p2 < 0)) (ck (decide ((Int32.toNatClampNeg p2) ≤ 22)) (nwx u 21 (Int32.toNatClampNeg p2) (fun u_3 => C_J5_copyOf_2_b24 e0 p1 u_3 p2 u.2.1))))
theorem m_C_J5_copyOf_2 {l : Launch} {D : va_G} {d : Nat → ClassId} {hs : IX} {adK adV : Nat → Nat} {e0 : Nat} {p1 : Nat} {p2 : Int32} {u : PS} {z : RX Nat} (htr0 : l.stackTraces = false) (hf : C_J5_copyOf_2 e0 p1 u p2 = some z) : YM l D d (ES adK adV e0) yJ5_copyOf_2 cJ5_copyOf_2 4 (some (.array (.object "java/lang/Object"))) 5 [.ref p1, .int p2, .ref (adK 22)] hs u z (Yr D hs d z) := by
  rw [C_J5_copyOf_2] at hf
  obtain ⟨hm, hf⟩ := ckm_s hf
  refine YM.of2 hm (by decide +kernel) (Nat.le_of_ble_eq_true rfl) ?_
  intro p e s m below meth c A ls X htab K hE O hb hl
  have hl : lv_has ls 4 [(0, .ref p1), (1, .int p2), (2, .ref (adK 22))] := hl
  have hx := X.1.1; have hy := X.1.2.1
  refine lv_aload_n hx hy dJ5_copyOf_2_0 rfl (lv_at hl 2 rfl) ?_
  refine y_ldcM X hE dJ5_copyOf_2_1 ?_
  refine lv_acmp_ne (rx := some (adK 22)) (ry := some (adK 22)) (tgt := 13) hx hy dJ5_copyOf_2_3 (by decide) (fun q => absurd rfl q) (fun _ => ?_)
  refine lv_iload_n hx hy dJ5_copyOf_2_6 rfl (lv_at hl 1 rfl) ?_
  obtain ⟨c_1, hf⟩ := ck_s hf
  obtain ⟨c_2, hf⟩ := ck_s hf
  obtain ⟨hm, u_3, eu_3, hf⟩ := nwx_s hf
  refine y_newarr X K O q228 (of_decide_eq_true c_1) rfl (of_decide_eq_true c_2) (hb.c1 hm) (hb.s1 hm (of_decide_eq_true c_2)) dJ5_copyOf_2_7 (fun H9 O9 => ?_)
  have hb := (hb.al (N := (Int32.toNatClampNeg p2)) hm (of_decide_eq_true c_2)).ev eu_3
  have O := O9
  rw [← eu_3] at O
  refine lv_goto (tgt := 24) hx hy dJ5_copyOf_2_10 (by decide) ?_
  exact w_C_J5_copyOf_2_b24 X K hE htr0 htab _ _ _ ls _ _ _ _ O hb (lv_sub hl [0, 1] rfl) hf
theorem hdS_J5_copyOf_2 : (yJ5_copyOf_2.cls ≠ "java/lang/invoke/MethodHandle" ∧ yJ5_copyOf_2.cls ≠ "java/lang/invoke/VarHandle" ∧ (parseMethodDescriptor yJ5_copyOf_2.desc).map (fun d => d.parameters.length) = some 3) := by decide +kernel
def C_J5_copyOf (e0 : Nat) (p1 : Nat) (u : PS) (p2 : Int32) : Option (RX Nat) :=
  ckm u (ck (okC u.1 21 p1 0) (bnx u (C_J5_copyOf_2 e0 p1 u p2) (fun u_2 r_3 => some (.inl (u_2, r_3)))))
theorem m_C_J5_copyOf {l : Launch} {D : va_G} {d : Nat → ClassId} {hs : IX} {adK adV : Nat → Nat} {e0 : Nat} {p1 : Nat} {p2 : Int32} {u : PS} {z : RX Nat} (htr0 : l.stackTraces = false) (hf : C_J5_copyOf e0 p1 u p2 = some z) : YM l D d (ES adK adV e0) yJ5_copyOf cJ5_copyOf 2 (some (.array (.object "java/lang/Object"))) 6 [.ref p1, .int p2] hs u z (Yr D hs d z) := by
  rw [C_J5_copyOf] at hf
  obtain ⟨hm, hf⟩ := ckm_s hf
  refine YM.of2 hm (by decide +kernel) (Nat.le_of_ble_eq_true rfl) ?_
  intro p e s m below meth c A ls X htab K hE O hb hl
  have hl : lv_has ls 2 [(0, .ref p1), (1, .int p2)] := hl
  have hx := X.1.1; have hy := X.1.2.1
  refine lv_aload_n hx hy dJ5_copyOf_0 rfl (lv_at hl 0 rfl) ?_
  refine lv_iload_n hx hy dJ5_copyOf_1 rfl (lv_at hl 1 rfl) ?_
  refine lv_aload_n hx hy dJ5_copyOf_2 rfl (lv_at hl 0 rfl) ?_
  obtain ⟨c_1, hf⟩ := ck_s hf
  refine y_getC X K hE O c_1 hl.1 (Nat.le_of_ble_eq_true rfl) (Nat.le_of_ble_eq_true rfl) dJ5_copyOf_3 ?_
  obtain ⟨zz, hg, hm, hX, hf⟩ := bnx_s hf
  refine y_callr htab X.2.2 (y_runS (As := [.ref p1, .int p2, .ref (adK 22)]) (rest := []) X K O (m_C_J5_copyOf_2 htr0 hg) ES_b (ES_h hE) (lw_S q223 q224 q117 q225) 3 rfl hl.1 (Nat.le_of_ble_eq_true rfl) hdS_J5_copyOf_2 ⟨(by decide), by decide⟩ (hb.cr hm) dJ5_copyOf_6) hX (hb.cr hm) (fun r_3 u_2 H9 locs9 hz O => ?_)
  replace hf := hf _ _ hz
  have hb := hb.cl (u1 := u_2) hm (by rw [hz]; rfl)
  exact y_aret X O hb rfl (Or.inr ⟨_, rfl⟩) (Option.some.inj hf).symm dJ5_copyOf_9
theorem hdS_J3_newLength : (yJ3_newLength.cls ≠ "java/lang/invoke/MethodHandle" ∧ yJ3_newLength.cls ≠ "java/lang/invoke/VarHandle" ∧ (parseMethodDescriptor yJ3_newLength.desc).map (fun d => d.parameters.length) = some 3) := by decide +kernel
theorem hdS_J5_copyOf : (yJ5_copyOf.cls ≠ "java/lang/invoke/MethodHandle" ∧ yJ5_copyOf.cls ≠ "java/lang/invoke/VarHandle" ∧ (parseMethodDescriptor yJ5_copyOf.desc).map (fun d => d.parameters.length) = some 2) := by decide +kernel
def C_J2_grow_2_b20 (e0 : Nat) (v : Nat) (u : PS) (x1 : Int32) (x2 : Int32) : Option (RX Nat) :=
  bn2 (C_J3_newLength u.1 u.2.2 x2 (x1 - x2) (x2 >>> (1 &&& 31))) (fun σ_3 r_2 => lt1 (pss u σ_3) (fun u_1 => bnx u_1 (C_J5_copyOf e0 (gR u_1.2.2 20 v 0 1) u_1 r_2) (fun u_4 r_5 => ck (okC u_4.1 20 v 0) (lt1 (pss u_4 (sR u_4.2.2 20 v 0 1 r_5)) (fun u_6 => some (.inl (u_6, r_5)))))))
theorem w_C_J2_grow_2_b20 {adK adV : Nat → Nat} {e0 : Nat} {v : Nat} (X : FX p m c meth s args RJ2 cJ2_grow_2 4 (some (.array (.object "java/lang/Object")))) (K : XK D d A s) (hE : ES adK adV e0 A s) (htr0 : l.stackTraces = false) (htab : ∀ x ∈ c.exceptionTable.toList, False) {z : RX Nat} : ∀ (u : PS) (x1 : Int32) (x2 : Int32) (hk : okC u.1 20 v 0 = true) (ls : Array Slot) (H : Heap) (locs : List Loc) (cs sl : Nat), YH D A s.heap hs d u H locs → CB s u (rN z) cs sl → lv_has ls 4 [(0, .ref ((hC hs) 20 v 0)), (1, .int x1), (2, .int x2)] → C_J2_grow_2_b20 e0 v u x1 x2 = some z → W p l e (rmD 7 (rN z - s.heap.size) (22 * (rN z - s.heap.size))) s m args below meth c H locs cs sl (vy_MQ below (Yr D hs d z A) (YX D hs d z A) args s (rN z - s.heap.size) (22 * (rN z - s.heap.size)) A) (F0 m 20 ls []) := by
  have hx := X.1.1; have hy := X.1.2.1
  intro u x1 x2 hk ls H locs cs sl O hb hl hf
  rw [C_J2_grow_2_b20] at hf
  refine lv_iload_n hx hy dJ2_grow_2_20 rfl (lv_at hl 2 rfl) ?_
  refine lv_iload_n hx hy dJ2_grow_2_21 rfl (lv_at hl 1 rfl) ?_
  refine lv_iload_n hx hy dJ2_grow_2_22 rfl (lv_at hl 2 rfl) ?_
  refine lv_isub hx hy dJ2_grow_2_23 ?_
  refine lv_iload_n hx hy dJ2_grow_2_24 rfl (lv_at hl 2 rfl) ?_
  refine lv_iconst (v := 1) hx hy dJ2_grow_2_25 (by decide) ?_
  refine lv_ishr hx hy dJ2_grow_2_26 ?_
  obtain ⟨σ_3, r_2, hg, hf⟩ := bn2_s hf
  obtain ⟨u_1, eu_1, hf⟩ := lt1_s hf
  refine x_calli (x_runS (As := [.int x2, .int (x1 - x2), .int (x2 >>> (1 &&& 31))]) (rest := []) X K O.1 (m_C_J3_newLength hg) EN_b EN_h (lw_S q191 q192 q115 q193) 3 rfl hl.1 (Nat.le_of_ble_eq_true rfl) hdS_J3_newLength ⟨(by decide), by decide⟩ hb.r dJ2_grow_2_27) (fun r _ H9 locs9 hp O9 hle => ?_)
  refine W.sz (fun hz => ?_)
  cases hp
  have O := O.call O9 hle hb hz
  rw [← eu_1] at O
  have hb := hb.mv eu_1
  have hk : okC u_1.1 20 v 0 = true := by rw [eu_1]; exact hk
  refine lv_istore_n (lv' := [(3, .int r_2), (0, .ref ((hC hs) 20 v 0)), (1, .int x1), (2, .int x2)]) hx hy dJ2_grow_2_30 rfl hl (by decide) rfl (fun ls hl => ?_)
  refine lv_aload_n hx hy dJ2_grow_2_31 rfl (lv_at hl 1 rfl) ?_
  refine lv_aload_n hx hy dJ2_grow_2_32 rfl (lv_at hl 1 rfl) ?_
  refine x_gR X K O.1 1 hk LC_20 rfl rfl in_J2 (by decide) q162 dJ2_grow_2_33 ?_
  refine x_top (w := .ref (gR u_1.2.2 20 v 0 1)) rfl ?_
  refine lv_iload_n hx hy dJ2_grow_2_36 rfl (lv_at hl 0 rfl) ?_
  obtain ⟨zz, hg, hm, hX, hf⟩ := bnx_s hf
  refine y_callr htab X.2.2 (y_runS (As := [.ref (gR u_1.2.2 20 v 0 1), .int r_2]) (rest := [.ref ((hC hs) 20 v 0)]) X K O (m_C_J5_copyOf htr0 hg) ES_b (ES_h hE) (lw_S q201 q202 q117 q203) 2 rfl hl.1 (Nat.le_of_ble_eq_true rfl) hdS_J5_copyOf ⟨(by decide), by decide⟩ (hb.cr hm) dJ2_grow_2_37) hX (hb.cr hm) (fun r_5 u_4 H9 locs9 hz O => ?_)
  replace hf := hf _ _ hz
  have hb := hb.cl (u1 := u_4) hm (by rw [hz]; rfl)
  obtain ⟨hk, hf⟩ := ck_s hf
  refine lv_dup_x1 hx hy dJ2_grow_2_40 rfl rfl ?_
  obtain ⟨u_6, eu_6, hf⟩ := lt1_s hf
  refine x_pR (x := r_5) X K O.1.self 1 hk LC_20 rfl rfl in_J2 tyJ2_ok nmJ2 (by decide) q162 rfl rfl rfl dJ2_grow_2_41 (fun H9 locs9 O9 => ?_)
  refine W.sz (fun hz => ?_)
  have O := O.put O9 hb hz
  rw [← eu_6] at O
  have hb := hb.mv eu_6
  have hk : okC u_6.1 20 v 0 = true := by rw [eu_6]; exact hk
  exact y_aret X O hb rfl (Or.inr ⟨_, rfl⟩) (Option.some.inj hf).symm dJ2_grow_2_44
def C_J2_grow_2 (e0 : Nat) (v : Nat) (u : PS) (p1 : Int32) : Option (RX Nat) :=
  ckm u (ck (isA u.1 e0 (gR u.2.2 20 v 0 1)) (lt1 (alen u.1 e0 (gR u.2.2 20 v 0 1)) (fun x2_2 => (if 0 < x2_2 then C_J2_grow_2_b20 e0 v u p1 x2_2 else (if (gR u.2.2 20 v 0 1) = e0 then ck (decide (¬ (imax 10 p1) < 0)) (ck (decide ((Int32.toNatClampNeg (imax 10 p1)) ≤ 22)) (nwx u 21 (Int32.toNatClampNeg (imax 10 p1)) (fun u_7 => lt1 (pss u_7 (sR u_7.2.2 20 v 0 1 u.2.1)) (fun u_8 => some (.inl (u_8, u.2.1)))))) else C_J2_grow_2_b20 e0 v u p1 x2_2)))))
theorem m_C_J2_grow_2 {l : Launch} {D : va_G} {d : Nat → ClassId} {hs : IX} {adK adV : Nat → Nat} {e0 : Nat} {v : Nat} {p1 : Int32} {u : PS} {z : RX Nat} (htr0 : l.stackTraces = false) (hk : okC u.1 20 v 0 = true) (hf : C_J2_grow_2 e0 v u p1 = some z) : YM l D d (ES adK adV e0) yJ2_grow_2 cJ2_grow_2 4 (some (.array (.object "java/lang/Object"))) 7 [.ref ((hC hs) 20 v 0), .int p1] hs u z (Yr D hs d z) := by
  rw [C_J2_grow_2] at hf
  obtain ⟨hm, hf⟩ := ckm_s hf
  refine YM.of2 hm (by decide +kernel) (Nat.le_of_ble_eq_true rfl) ?_
  intro p e s m below meth c A ls X htab K hE O hb hl
  have hl : lv_has ls 4 [(0, .ref ((hC hs) 20 v 0)), (1, .int p1)] := hl
  have hx := X.1.1; have hy := X.1.2.1
  refine lv_aload_n hx hy dJ2_grow_2_0 rfl (lv_at hl 0 rfl) ?_
  refine x_gR X K O.1 1 hk LC_20 rfl rfl in_J2 (by decide) q162 dJ2_grow_2_1 ?_
  refine x_top (w := .ref (gR u.2.2 20 v 0 1)) rfl ?_
  obtain ⟨c_1, hf⟩ := ck_s hf
  refine y_alen X K hE O c_1 dJ2_grow_2_4 ?_
  obtain ⟨x2_2, ex2_2, hf⟩ := lt1_s hf
  refine x_top (w := .int x2_2) (by rw [ex2_2]) ?_
  refine lv_istore_n (lv' := [(2, .int x2_2), (0, .ref ((hC hs) 20 v 0)), (1, .int p1)]) hx hy dJ2_grow_2_5 rfl hl (by decide) rfl (fun ls hl => ?_)
  refine lv_iload_n hx hy dJ2_grow_2_6 rfl (lv_at hl 0 rfl) ?_
  refine lv_if_gt (tgt := 20) hx hy dJ2_grow_2_7 (by decide) (fun c_3 => ?_) (fun c_3 => ?_)
  · replace hf := if_t c_3 hf
    exact w_C_J2_grow_2_b20 X K hE htr0 htab _ _ _ hk ls _ _ _ _ O hb (lv_sub hl [1, 2, 0] rfl) hf
  · replace hf := if_f c_3 hf
    refine lv_aload_n hx hy dJ2_grow_2_10 rfl (lv_at hl 1 rfl) ?_
    refine x_gR X K O.1 1 hk LC_20 rfl rfl in_J2 (by decide) q162 dJ2_grow_2_11 ?_
    refine x_top (w := .ref (gR u.2.2 20 v 0 1)) rfl ?_
    refine y_gete X hE O dJ2_grow_2_14 ?_
    refine lv_acmp_eq (rx := some (gR u.2.2 20 v 0 1)) (ry := some e0) (tgt := 45) hx hy dJ2_grow_2_17 (by decide) (fun c_4 => ?_) (fun c_4 => ?_)
    · replace hf := if_t (Option.some.inj c_4) hf
      refine lv_aload_n hx hy dJ2_grow_2_45 rfl (lv_at hl 1 rfl) ?_
      refine lv_bipush (v := 10) hx hy dJ2_grow_2_46 (by decide) ?_
      refine lv_iload_n hx hy dJ2_grow_2_48 rfl (lv_at hl 2 rfl) ?_
      refine va_mmax hx hy (X.1.2.2.1.trans hl.1.symm) X.1.2.2.2.1 (X.1.2.2.2.2 _ q235) (X.1.2.2.2.2 _ q195) (X.1.2.2.2.2 _ q116) (X.1.2.2.2.2 _ q196) (Nat.le_of_ble_eq_true rfl) (Nat.le_of_ble_eq_true rfl) hb.r.1 hb.r.2 dJ2_grow_2_49 ?_
      refine x_top (w := .int (imax 10 p1)) rfl ?_
      obtain ⟨c_5, hf⟩ := ck_s hf
      obtain ⟨c_6, hf⟩ := ck_s hf
      obtain ⟨hm, u_7, eu_7, hf⟩ := nwx_s hf
      refine y_newarr X K O q236 (of_decide_eq_true c_5) rfl (of_decide_eq_true c_6) (hb.c1 hm) (hb.s1 hm (of_decide_eq_true c_6)) dJ2_grow_2_52 (fun H9 O9 => ?_)
      have hb := (hb.al (N := (Int32.toNatClampNeg (imax 10 p1))) hm (of_decide_eq_true c_6)).ev eu_7
      have hk : okC u_7.1 20 v 0 = true := by rw [eu_7]; exact okC_al (by decide) hk
      have O := O9
      rw [← eu_7] at O
      refine lv_dup_x1 hx hy dJ2_grow_2_55 rfl rfl ?_
      obtain ⟨u_8, eu_8, hf⟩ := lt1_s hf
      refine x_pR (x := u.2.1) X K O.1.self 1 hk LC_20 rfl rfl in_J2 tyJ2_ok nmJ2 (by decide) q162 rfl rfl rfl dJ2_grow_2_56 (fun H9 locs9 O9 => ?_)
      refine W.sz (fun hz => ?_)
      have O := O.put O9 hb hz
      rw [← eu_8] at O
      have hb := hb.mv eu_8
      have hk : okC u_8.1 20 v 0 = true := by rw [eu_8]; exact hk
      exact y_aret X O hb rfl (Or.inr ⟨_, rfl⟩) (Option.some.inj hf).symm dJ2_grow_2_59
    · replace hf := if_f (fun q => c_4 (congrArg some q)) hf
      exact w_C_J2_grow_2_b20 X K hE htr0 htab _ _ _ hk ls _ _ _ _ O hb (lv_sub hl [1, 2, 0] rfl) hf
theorem hdV_J2_grow_2 : yJ2_grow_2.cls = RJ2 ∧ (yJ2_grow_2.cls ≠ "java/lang/invoke/MethodHandle" ∧ yJ2_grow_2.cls ≠ "java/lang/invoke/VarHandle" ∧ (parseMethodDescriptor yJ2_grow_2.desc).map (fun d => d.parameters.length) = some 1) := by decide +kernel
def C_J2_grow (e0 : Nat) (v : Nat) (u : PS) : Option (RX Nat) :=
  ckm u (bnx u (C_J2_grow_2 e0 v u ((gI u.2.2 20 v 0 2) + 1)) (fun u_1 r_2 => ck (okC u_1.1 20 v 0) (some (.inl (u_1, r_2)))))
theorem m_C_J2_grow {l : Launch} {D : va_G} {d : Nat → ClassId} {hs : IX} {adK adV : Nat → Nat} {e0 : Nat} {v : Nat} {u : PS} {z : RX Nat} (htr0 : l.stackTraces = false) (hk : okC u.1 20 v 0 = true) (hf : C_J2_grow e0 v u = some z) : YM l D d (ES adK adV e0) yJ2_grow cJ2_grow 1 (some (.array (.object "java/lang/Object"))) 8 [.ref ((hC hs) 20 v 0)] hs u z (Yr D hs d z) := by
  rw [C_J2_grow] at hf
  obtain ⟨hm, hf⟩ := ckm_s hf
  refine YM.of2 hm (by decide +kernel) (Nat.le_of_ble_eq_true rfl) ?_
  intro p e s m below meth c A ls X htab K hE O hb hl
  have hl : lv_has ls 1 [(0, .ref ((hC hs) 20 v 0))] := hl
  have hx := X.1.1; have hy := X.1.2.1
  refine lv_aload_n hx hy dJ2_grow_0 rfl (lv_at hl 0 rfl) ?_
  refine lv_aload_n hx hy dJ2_grow_1 rfl (lv_at hl 0 rfl) ?_
  refine x_gI X K O.1 2 hk LC_20 rfl rfl in_J2 (by decide) q163 dJ2_grow_2 ?_
  refine lv_iconst (v := 1) hx hy dJ2_grow_5 (by decide) ?_
  refine lv_iadd hx hy dJ2_grow_6 ?_
  obtain ⟨zz, hg, hm, hX, hf⟩ := bnx_s hf
  refine y_callr htab X.2.2 (y_runV (As := [.int ((gI u.2.2 20 v 0 2) + 1)]) (rest := []) X K O (xct_obj hk LC_20) rfl (m_C_J2_grow_2 htr0 hk hg) ES_b (ES_h hE) (lw_V q187 q189 qs2 q114 q190) 1 rfl hl.1 (Nat.le_of_ble_eq_true rfl) hdV_J2_grow_2 ⟨(by decide), by decide⟩ (hb.cr hm) dJ2_grow_7) hX (hb.cr hm) (fun r_2 u_1 H9 locs9 hz O => ?_)
  replace hf := hf _ _ hz
  have hb := hb.cl (u1 := u_1) hm (by rw [hz]; rfl)
  obtain ⟨hk, hf⟩ := ck_s hf
  exact y_aret X O hb rfl (Or.inr ⟨_, rfl⟩) (Option.some.inj hf).symm dJ2_grow_10
theorem hdV_J2_grow : yJ2_grow.cls = RJ2 ∧ (yJ2_grow.cls ≠ "java/lang/invoke/MethodHandle" ∧ yJ2_grow.cls ≠ "java/lang/invoke/VarHandle" ∧ (parseMethodDescriptor yJ2_grow.desc).map (fun d => d.parameters.length) = some 0) := by decide +kernel
def C_J2_add_2_b11 (e0 : Nat) (v : Nat) (p1 : Nat) (p2 : Nat) (u : PS) (x1 : Nat) (x2 : Nat) (x3 : Int32) : Option (RX Unit) :=
  ck (okC u.1 21 x2 0) (ck (okI x3 (LC_21n u.1 x2)) (ck (elo u.1 x1) (lt1 (pss u (sR u.2.2 21 x2 0 (Int32.toNatClampNeg x3) (x1 + 1))) (fun u_3 => lt1 (pss u_3 (sI u_3.2.2 20 v 0 2 (x3 + 1))) (fun u_5 => some (.inl (u_5, ())))))))
theorem w_C_J2_add_2_b11 {adK adV : Nat → Nat} {e0 : Nat} {v : Nat} {p1 : Nat} {p2 : Nat} (X : FX p m c meth s args RJ2 cJ2_add_2 4 none) (K : XK D d A s) (hE : ES adK adV e0 A s) (htr0 : l.stackTraces = false) (htab : ∀ x ∈ c.exceptionTable.toList, False) {z : RX Unit} : ∀ (u : PS) (x1 : Nat) (x2 : Nat) (x3 : Int32) (hk : okC u.1 20 v 0 = true) (ls : Array Slot) (H : Heap) (locs : List Loc) (cs sl : Nat), YH D A s.heap hs d u H locs → CB s u (rN z) cs sl → lv_has ls 4 [(0, .ref ((hC hs) 20 v 0)), (1, .ref x1), (2, .ref x2), (3, .int x3)] → C_J2_add_2_b11 e0 v p1 p2 u x1 x2 x3 = some z → W p l e (rmD 9 (rN z - s.heap.size) (22 * (rN z - s.heap.size))) s m args below meth c H locs cs sl (vy_MQ below (Yv D hs d z A) (YX D hs d z A) args s (rN z - s.heap.size) (22 * (rN z - s.heap.size)) A) (F0 m 11 ls []) := by
  have hx := X.1.1; have hy := X.1.2.1
  intro u x1 x2 x3 hk ls H locs cs sl O hb hl hf
  rw [C_J2_add_2_b11] at hf
  refine lv_aload_n hx hy dJ2_add_2_11 rfl (lv_at hl 2 rfl) ?_
  refine lv_iload_n hx hy dJ2_add_2_12 rfl (lv_at hl 3 rfl) ?_
  refine lv_aload_n hx hy dJ2_add_2_13 rfl (lv_at hl 1 rfl) ?_
  obtain ⟨c_1, hf⟩ := ck_s hf
  obtain ⟨c_2, hf⟩ := ck_s hf
  obtain ⟨c_4, hf⟩ := ck_s hf
  obtain ⟨u_3, eu_3, hf⟩ := lt1_s hf
  refine y_ast X K O hb c_1 c_2 rfl c_4 dJ2_add_2_14 (fun H9 locs9 O => ?_)
  rw [← eu_3] at O
  have hb := hb.mv eu_3
  have hk : okC u_3.1 20 v 0 = true := by rw [eu_3]; exact hk
  refine lv_aload_n hx hy dJ2_add_2_15 rfl (lv_at hl 0 rfl) ?_
  refine lv_iload_n hx hy dJ2_add_2_16 rfl (lv_at hl 3 rfl) ?_
  refine lv_iconst (v := 1) hx hy dJ2_add_2_17 (by decide) ?_
  refine lv_iadd hx hy dJ2_add_2_18 ?_
  obtain ⟨u_5, eu_5, hf⟩ := lt1_s hf
  refine x_pI X K O.1.self 2 hk LC_20 rfl rfl in_J2 tyJ2_ok nmJ2 (by decide) q163 rfl rfl rfl dJ2_add_2_19 (fun H9 locs9 O9 => ?_)
  refine W.sz (fun hz => ?_)
  have O := O.put O9 hb hz
  rw [← eu_5] at O
  have hb := hb.mv eu_5
  have hk : okC u_5.1 20 v 0 = true := by rw [eu_5]; exact hk
  exact y_vret X O hb rfl (Option.some.inj hf).symm dJ2_add_2_22
def C_J2_add_2 (e0 : Nat) (v : Nat) (p1 : Nat) (p2 : Nat) (u : PS) (p3 : Int32) : Option (RX Unit) :=
  ckm u (ck (isA u.1 e0 p2) ((if p3 = (alen u.1 e0 p2) then bnx u (C_J2_grow e0 v u) (fun u_3 r_4 => ck (okC u_3.1 20 v 0) (C_J2_add_2_b11 e0 v p1 p2 u_3 p1 r_4 p3)) else C_J2_add_2_b11 e0 v p1 p2 u p1 p2 p3)))
theorem m_C_J2_add_2 {l : Launch} {D : va_G} {d : Nat → ClassId} {hs : IX} {adK adV : Nat → Nat} {e0 : Nat} {v : Nat} {p1 : Nat} {p2 : Nat} {p3 : Int32} {u : PS} {z : RX Unit} (htr0 : l.stackTraces = false) (hk : okC u.1 20 v 0 = true) (hf : C_J2_add_2 e0 v p1 p2 u p3 = some z) : YM l D d (ES adK adV e0) yJ2_add_2 cJ2_add_2 4 none 9 [.ref ((hC hs) 20 v 0), .ref p1, .ref p2, .int p3] hs u z (Yv D hs d z) := by
  rw [C_J2_add_2] at hf
  obtain ⟨hm, hf⟩ := ckm_s hf
  refine YM.of2 hm (by decide +kernel) (Nat.le_of_ble_eq_true rfl) ?_
  intro p e s m below meth c A ls X htab K hE O hb hl
  have hl : lv_has ls 4 [(0, .ref ((hC hs) 20 v 0)), (1, .ref p1), (2, .ref p2), (3, .int p3)] := hl
  have hx := X.1.1; have hy := X.1.2.1
  refine lv_iload_n hx hy dJ2_add_2_0 rfl (lv_at hl 3 rfl) ?_
  refine lv_aload_n hx hy dJ2_add_2_1 rfl (lv_at hl 2 rfl) ?_
  obtain ⟨c_1, hf⟩ := ck_s hf
  refine y_alen X K hE O c_1 dJ2_add_2_2 ?_
  refine lv_icmp_ne (tgt := 11) hx hy dJ2_add_2_3 (by decide) (fun c_2 => ?_) (fun c_2 => ?_)
  · replace hf := if_f c_2 hf
    exact w_C_J2_add_2_b11 X K hE htr0 htab _ _ _ _ hk ls _ _ _ _ O hb (lv_sub hl [0, 1, 2, 3] rfl) hf
  · replace hf := if_t c_2 hf
    refine lv_aload_n hx hy dJ2_add_2_6 rfl (lv_at hl 0 rfl) ?_
    obtain ⟨zz, hg, hm, hX, hf⟩ := bnx_s hf
    refine y_callr htab X.2.2 (y_runV (As := []) (rest := []) X K O (xct_obj hk LC_20) rfl (m_C_J2_grow htr0 hk hg) ES_b (ES_h hE) (lw_V q183 q185 qs1 q114 q186) 0 rfl hl.1 (Nat.le_of_ble_eq_true rfl) hdV_J2_grow ⟨(by decide), by decide⟩ (hb.cr hm) dJ2_add_2_7) hX (hb.cr hm) (fun r_4 u_3 H9 locs9 hz O => ?_)
    replace hf := hf _ _ hz
    have hb := hb.cl (u1 := u_3) hm (by rw [hz]; rfl)
    obtain ⟨hk, hf⟩ := ck_s hf
    refine lv_astore_n (lv' := [(2, .ref r_4), (0, .ref ((hC hs) 20 v 0)), (1, .ref p1), (3, .int p3)]) hx hy dJ2_add_2_10 rfl hl (by decide) rfl (fun ls hl => ?_)
    exact w_C_J2_add_2_b11 X K hE htr0 htab _ _ _ _ hk ls _ _ _ _ O hb (lv_sub hl [1, 2, 0, 3] rfl) hf
theorem hdV_J2_add_2 : yJ2_add_2.cls = RJ2 ∧ (yJ2_add_2.cls ≠ "java/lang/invoke/MethodHandle" ∧ yJ2_add_2.cls ≠ "java/lang/invoke/VarHandle" ∧ (parseMethodDescriptor yJ2_add_2.desc).map (fun d => d.parameters.length) = some 3) := by decide +kernel
def C_J2_add (e0 : Nat) (v : Nat) (p1 : Nat) (u : PS) : Option (RX Int32) :=
  ckm u (lt1 (pss u (sI u.2.2 20 v 0 0 ((gI u.2.2 20 v 0 0) + 1))) (fun u_1 => bnx u_1 (C_J2_add_2 e0 v p1 (gR u_1.2.2 20 v 0 1) u_1 (gI u_1.2.2 20 v 0 2)) (fun u_2 _ => ck (okC u_2.1 20 v 0) (some (.inl (u_2, 1))))))
theorem m_C_J2_add {l : Launch} {D : va_G} {d : Nat → ClassId} {hs : IX} {adK adV : Nat → Nat} {e0 : Nat} {v : Nat} {p1 : Nat} {u : PS} {z : RX Int32} (htr0 : l.stackTraces = false) (hk : okC u.1 20 v 0 = true) (hf : C_J2_add e0 v p1 u = some z) : YM l D d (ES adK adV e0) yJ2_add cJ2_add 2 (some .boolean) 10 [.ref ((hC hs) 20 v 0), .ref p1] hs u z (Yi D hs d z) := by
  rw [C_J2_add] at hf
  obtain ⟨hm, hf⟩ := ckm_s hf
  refine YM.of2 hm (by decide +kernel) (Nat.le_of_ble_eq_true rfl) ?_
  intro p e s m below meth c A ls X htab K hE O hb hl
  have hl : lv_has ls 2 [(0, .ref ((hC hs) 20 v 0)), (1, .ref p1)] := hl
  have hx := X.1.1; have hy := X.1.2.1
  refine lv_aload_n hx hy dJ2_add_0 rfl (lv_at hl 0 rfl) ?_
  refine lv_dup hx hy dJ2_add_1 rfl ?_
  refine y_gmc X K O hk dJ2_add_2 ?_
  refine lv_iconst (v := 1) hx hy dJ2_add_5 (by decide) ?_
  refine lv_iadd hx hy dJ2_add_6 ?_
  obtain ⟨u_1, eu_1, hf⟩ := lt1_s hf
  refine y_pmc X K O hb hk dJ2_add_7 (fun H9 locs9 O => ?_)
  rw [← eu_1] at O
  have hb := hb.mv eu_1
  have hk : okC u_1.1 20 v 0 = true := by rw [eu_1]; exact hk
  refine lv_aload_n hx hy dJ2_add_10 rfl (lv_at hl 0 rfl) ?_
  refine lv_aload_n hx hy dJ2_add_11 rfl (lv_at hl 1 rfl) ?_
  refine lv_aload_n hx hy dJ2_add_12 rfl (lv_at hl 0 rfl) ?_
  refine x_gR X K O.1 1 hk LC_20 rfl rfl in_J2 (by decide) q162 dJ2_add_13 ?_
  refine x_top (w := .ref (gR u_1.2.2 20 v 0 1)) rfl ?_
  refine lv_aload_n hx hy dJ2_add_16 rfl (lv_at hl 0 rfl) ?_
  refine x_gI X K O.1 2 hk LC_20 rfl rfl in_J2 (by decide) q163 dJ2_add_17 ?_
  obtain ⟨zz, hg, hm, hX, hf⟩ := bnx_s hf
  refine y_callv htab X.2.2 (y_runV (As := [.ref p1, .ref (gR u_1.2.2 20 v 0 1), .int (gI u_1.2.2 20 v 0 2)]) (rest := []) X K O (xct_obj hk LC_20) rfl (m_C_J2_add_2 htr0 hk hg) ES_b (ES_h hE) (lw_V q179 q181 qs0 q114 q182) 3 rfl hl.1 (Nat.le_of_ble_eq_true rfl) hdV_J2_add_2 ⟨(by decide), by decide⟩ (hb.cr hm) dJ2_add_20) hX (hb.cr hm) (fun u_2 H9 locs9 hz O => ?_)
  replace hf := hf _ _ hz
  have hb := hb.cl (u1 := u_2) hm (by rw [hz]; rfl)
  obtain ⟨hk, hf⟩ := ck_s hf
  refine lv_iconst (v := 1) hx hy dJ2_add_23 (by decide) ?_
  exact y_zret X O hb rfl rfl (Option.some.inj hf).symm dJ2_add_24
end YW
