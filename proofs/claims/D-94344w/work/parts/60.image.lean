section YW
variable {p : Program} {l : Launch} {e : Env} {s : State} {m : MethodId} {args : Array Value} {below : List Frame} {meth : Method} {c : Code} {D : va_G} {A : Nat → Prop} {hs : IX} {d : Nat → ClassId}

theorem hdV_J2_clear : yJ2_clear.cls = RJ2 ∧ (yJ2_clear.cls ≠ "java/lang/invoke/MethodHandle" ∧ yJ2_clear.cls ≠ "java/lang/invoke/VarHandle" ∧ (parseMethodDescriptor yJ2_clear.desc).map (fun d => d.parameters.length) = some 0) := by decide +kernel
def C_X0_takes_b6 (e0 : Nat) (p1 : Nat) (p2 : Nat) : Nat → PS → Int32 → Option (RX Unit)
  | 0, _, _ => none
  | n + 1, u, x2 =>
    bn2 (C_J2_size u.1 p2 u.2.2) (fun σ_3 r_2 => lt1 (pss u σ_3) (fun u_1 => (if r_2 ≤ x2 then some (.inl (u_1, ())) else bn2 (C_J2_get u_1.1 p2 u_1.2.2 x2) (fun σ_7 r_6 => lt1 (pss u_1 σ_7) (fun u_5 => ck (okC u_5.1 20 r_6 0) (bnx u_5 (C_J2_add e0 p1 r_6 u_5) (fun u_9 r_10 => ck (okC u_9.1 20 p1 0) (ck (okC u_9.1 20 p2 0) (lt1 (x2 + 1) (fun x2_11 => (C_X0_takes_b6 e0 p1 p2 n) u_9 x2_11))))))))))
theorem w_C_X0_takes_b6 {adK adV : Nat → Nat} {e0 : Nat} {p1 : Nat} {p2 : Nat} (X : FX p m c meth s args RX0 cX0_takes 3 none) (K : XK D d A s) (hE : ES adK adV e0 A s) (htr0 : l.stackTraces = false) (htab : ∀ x ∈ c.exceptionTable.toList, False) {z : RX Unit} : ∀ (n : Nat) (u : PS) (x2 : Int32) (hp1 : okC u.1 20 p1 0 = true) (hp2 : okC u.1 20 p2 0 = true) (ls : Array Slot) (H : Heap) (locs : List Loc) (cs sl : Nat), YH D A s.heap hs d u H locs → CB s u (rN z) cs sl → lv_has ls 3 [(0, .ref ((hC hs) 20 p1 0)), (1, .ref ((hC hs) 20 p2 0)), (2, .int x2)] → C_X0_takes_b6 e0 p1 p2 n u x2 = some z → W p l e (rmD 11 (rN z - s.heap.size) (22 * (rN z - s.heap.size))) s m args below meth c H locs cs sl (vy_MQ below (Yv D hs d z A) (YX D hs d z A) args s (rN z - s.heap.size) (22 * (rN z - s.heap.size)) A) (F0 m 6 ls []) := by
  have hx := X.1.1; have hy := X.1.2.1
  intro n
  induction n with
  | zero =>
    intro u x2 hp1 hp2 ls H locs cs sl O hb hl hf
    exact absurd hf (fun q => by cases q)
  | succ n ih =>
    intro u x2 hp1 hp2 ls H locs cs sl O hb hl hf
    rw [C_X0_takes_b6] at hf
    refine lv_iload_n hx hy dX0_takes_6 rfl (lv_at hl 2 rfl) ?_
    refine lv_aload_n hx hy dX0_takes_7 rfl (lv_at hl 1 rfl) ?_
    obtain ⟨σ_3, r_2, hg, hf⟩ := bn2_s hf
    obtain ⟨u_1, eu_1, hf⟩ := lt1_s hf
    refine x_calli (x_runV (As := []) (rest := [.int x2]) X K O.1 (xct_obj hp2 LC_20) rfl (m_C_J2_size hp2 hg) EN_b EN_h (lw_V q774 q658 q659 q114 q660) 0 rfl hl.1 (Nat.le_of_ble_eq_true rfl) hdV_J2_size ⟨(by decide), by decide⟩ hb.r dX0_takes_8) (fun r _ H9 locs9 hp O9 hle => ?_)
    refine W.sz (fun hz => ?_)
    cases hp
    have O := O.call O9 hle hb hz
    rw [← eu_1] at O
    have hb := hb.mv eu_1
    have hp1 : okC u_1.1 20 p1 0 = true := by rw [eu_1]; exact hp1
    have hp2 : okC u_1.1 20 p2 0 = true := by rw [eu_1]; exact hp2
    refine lv_icmp_ge (tgt := 33) hx hy dX0_takes_11 (by decide) (fun c_4 => ?_) (fun c_4 => ?_)
    · replace hf := if_t c_4 hf
      exact y_vret X O hb rfl (Option.some.inj hf).symm dX0_takes_33
    · replace hf := if_f c_4 hf
      refine lv_aload_n hx hy dX0_takes_14 rfl (lv_at hl 0 rfl) ?_
      refine lv_aload_n hx hy dX0_takes_15 rfl (lv_at hl 1 rfl) ?_
      refine lv_iload_n hx hy dX0_takes_16 rfl (lv_at hl 2 rfl) ?_
      obtain ⟨σ_7, r_6, hg, hf⟩ := bn2_s hf
      obtain ⟨u_5, eu_5, hf⟩ := lt1_s hf
      refine x_callr (x_runV (As := [.int x2]) (rest := [.ref ((hC hs) 20 p1 0)]) X K O.1 (xct_obj hp2 LC_20) rfl (m_C_J2_get hp2 hg) EN_b EN_h (lw_V q1139 q824 q825 q114 q826) 1 rfl hl.1 (Nat.le_of_ble_eq_true rfl) hdV_J2_get ⟨(by decide), by decide⟩ hb.r dX0_takes_17) (fun r _ H9 locs9 hp O9 hle => ?_)
      refine W.sz (fun hz => ?_)
      cases hp
      have O := O.call O9 hle hb hz
      rw [← eu_5] at O
      have hb := hb.mv eu_5
      have hp1 : okC u_5.1 20 p1 0 = true := by rw [eu_5]; exact hp1
      have hp2 : okC u_5.1 20 p2 0 = true := by rw [eu_5]; exact hp2
      obtain ⟨c_8, hf⟩ := ck_s hf
      refine x_top (w := .ref ((hC hs) 20 r_6 0)) rfl ?_
      refine x_cast X K O.1 (xct_obj c_8 LC_20) rfl q148 dX0_takes_20 ?_
      obtain ⟨zz, hg, hm, hX, hf⟩ := bnx_s hf
      refine y_calli htab X.2.2 (y_runV (As := [.ref ((hC hs) 20 r_6 0)]) (rest := []) X K O (xct_obj hp1 LC_20) rfl (m_C_J2_add htr0 hp1 hg) ES_b (ES_h hE) (lw_V q175 q176 q177 q114 q178) 1 rfl hl.1 (Nat.le_of_ble_eq_true rfl) hdV_J2_add ⟨(by decide), by decide⟩ (hb.cr hm) dX0_takes_23) hX (hb.cr hm) (fun r_10 u_9 H9 locs9 hz O => ?_)
      replace hf := hf _ _ hz
      have hb := hb.cl (u1 := u_9) hm (by rw [hz]; rfl)
      obtain ⟨hp1, hf⟩ := ck_s hf
      obtain ⟨hp2, hf⟩ := ck_s hf
      refine lv_pop hx hy dX0_takes_26 rfl ?_
      obtain ⟨x2_11, ex2_11, hf⟩ := lt1_s hf
      refine lv_iinc (v := x2_11) (lv' := [(2, .int x2_11), (0, .ref ((hC hs) 20 p1 0)), (1, .ref ((hC hs) 20 p2 0))]) hx hy dX0_takes_27 hl (k := 2) rfl (by rw [ex2_11]; rfl) (by decide) rfl (fun ls hl => ?_)
      refine lv_goto (tgt := 6) hx hy dX0_takes_30 (by decide) ?_
      exact ih _ _ hp1 hp2 ls _ _ _ _ O hb (lv_sub hl [1, 2, 0] rfl) hf
def C_X0_takes (e0 : Nat) (p1 : Nat) (p2 : Nat) (u : PS) : Option (RX Unit) :=
  ckm u (bnx u (C_J2_clear e0 p1 u) (fun u_1 _ => ck (okC u_1.1 20 p1 0) (ck (okC u_1.1 20 p2 0) (C_X0_takes_b6 e0 p1 p2 FUEL u_1 0))))
theorem m_C_X0_takes {l : Launch} {D : va_G} {d : Nat → ClassId} {hs : IX} {adK adV : Nat → Nat} {e0 : Nat} {p1 : Nat} {p2 : Nat} {u : PS} {z : RX Unit} (htr0 : l.stackTraces = false) (hp1 : okC u.1 20 p1 0 = true) (hp2 : okC u.1 20 p2 0 = true) (hf : C_X0_takes e0 p1 p2 u = some z) : YM l D d (ES adK adV e0) yX0_takes cX0_takes 3 none 11 [.ref ((hC hs) 20 p1 0), .ref ((hC hs) 20 p2 0)] hs u z (Yv D hs d z) := by
  rw [C_X0_takes] at hf
  obtain ⟨hm, hf⟩ := ckm_s hf
  refine YM.of2 hm (by decide +kernel) (Nat.le_of_ble_eq_true rfl) ?_
  intro p e s m below meth c A ls X htab K hE O hb hl
  have hl : lv_has ls 3 [(0, .ref ((hC hs) 20 p1 0)), (1, .ref ((hC hs) 20 p2 0))] := hl
  have hx := X.1.1; have hy := X.1.2.1
  refine lv_aload_n hx hy dX0_takes_0 rfl (lv_at hl 0 rfl) ?_
  obtain ⟨zz, hg, hm, hX, hf⟩ := bnx_s hf
  refine y_callv htab X.2.2 (y_runV (As := []) (rest := []) X K O (xct_obj hp1 LC_20) rfl (m_C_J2_clear htr0 hp1 hg) ES_b (ES_h hE) (lw_V q1135 q1136 q1137 q114 q1138) 0 rfl hl.1 (Nat.le_of_ble_eq_true rfl) hdV_J2_clear ⟨(by decide), by decide⟩ (hb.cr hm) dX0_takes_1) hX (hb.cr hm) (fun u_1 H9 locs9 hz O => ?_)
  replace hf := hf _ _ hz
  have hb := hb.cl (u1 := u_1) hm (by rw [hz]; rfl)
  obtain ⟨hp1, hf⟩ := ck_s hf
  obtain ⟨hp2, hf⟩ := ck_s hf
  refine lv_iconst (v := 0) hx hy dX0_takes_4 (by decide) ?_
  refine lv_istore_n (lv' := [(2, .int 0), (0, .ref ((hC hs) 20 p1 0)), (1, .ref ((hC hs) 20 p2 0))]) hx hy dX0_takes_5 rfl hl (by decide) rfl (fun ls hl => ?_)
  exact w_C_X0_takes_b6 X K hE htr0 htab _ _ _ hp1 hp2 ls _ _ _ _ O hb (lv_sub hl [1, 2, 0] rfl) hf
theorem hdS_X0_takes : (yX0_takes.cls ≠ "java/lang/invoke/MethodHandle" ∧ yX0_takes.cls ≠ "java/lang/invoke/VarHandle" ∧ (parseMethodDescriptor yX0_takes.desc).map (fun d => d.parameters.length) = some 2) := by decide +kernel
theorem hdV_J2_isEmpty : yJ2_isEmpty.cls = RJ2 ∧ (yJ2_isEmpty.cls ≠ "java/lang/invoke/MethodHandle" ∧ yJ2_isEmpty.cls ≠ "java/lang/invoke/VarHandle" ∧ (parseMethodDescriptor yJ2_isEmpty.desc).map (fun d => d.parameters.length) = some 0) := by decide +kernel
def C_X0_image_b46 (e0 : Nat) (u : PS) (x1 : Int32) (s0a : Nat) (s1a : Nat) : Option (RX Int32) :=
  bnx u (C_X0_takes e0 s0a s1a u) (fun u_1 _ => (if x1 = 0 then bn1 (C_X1_takes u_1.1 0 2 u_1.2.2) (fun σ_5 => lt1 (pss u_1 σ_5) (fun u_4 => some (.inl (u_4, 1)))) else bn1 (C_X1_takes u_1.1 2 0 u_1.2.2) (fun σ_7 => lt1 (pss u_1 σ_7) (fun u_6 => some (.inl (u_6, 1))))))
theorem w_C_X0_image_b46 {adK adV : Nat → Nat} {e0 : Nat} (X : FX p m c meth s args RX0 cX0_image 2 (some .boolean)) (K : XK D d A s) (hE : ES adK adV e0 A s) (htr0 : l.stackTraces = false) (htab : ∀ x ∈ c.exceptionTable.toList, False) {z : RX Int32} : ∀ (u : PS) (x1 : Int32) (s0a : Nat) (s1a : Nat) (ks0 : okC u.1 20 s0a 0 = true) (ks1 : okC u.1 20 s1a 0 = true) (ls : Array Slot) (H : Heap) (locs : List Loc) (cs sl : Nat), YH D A s.heap hs d u H locs → CB s u (rN z) cs sl → lv_has ls 2 [(0, .ref ((hC hs) 0 0 0)), (1, .int x1)] → C_X0_image_b46 e0 u x1 s0a s1a = some z → W p l e (rmD 12 (rN z - s.heap.size) (22 * (rN z - s.heap.size))) s m args below meth c H locs cs sl (vy_MQ below (Yi D hs d z A) (YX D hs d z A) args s (rN z - s.heap.size) (22 * (rN z - s.heap.size)) A) (F0 m 46 ls [.ref ((hC hs) 20 s1a 0), .ref ((hC hs) 20 s0a 0)]) := by
  have hx := X.1.1; have hy := X.1.2.1
  intro u x1 s0a s1a ks0 ks1 ls H locs cs sl O hb hl hf
  rw [C_X0_image_b46] at hf
  obtain ⟨zz, hg, hm, hX, hf⟩ := bnx_s hf
  refine y_callv htab X.2.2 (y_runS (As := [.ref ((hC hs) 20 s0a 0), .ref ((hC hs) 20 s1a 0)]) (rest := []) X K O (m_C_X0_takes htr0 ks0 ks1 hg) ES_b (ES_h hE) (lw_S q1132 q1133 q111 q1134) 2 rfl hl.1 (Nat.le_of_ble_eq_true rfl) hdS_X0_takes ⟨(by decide), by decide⟩ (hb.cr hm) dX0_image_46) hX (hb.cr hm) (fun u_1 H9 locs9 hz O => ?_)
  replace hf := hf _ _ hz
  have hb := hb.cl (u1 := u_1) hm (by rw [hz]; rfl)
  refine lv_iload_n hx hy dX0_image_49 rfl (lv_at hl 1 rfl) ?_
  refine lv_if_eq (tgt := 68) hx hy dX0_image_50 (by decide) (fun c_3 => ?_) (fun c_3 => ?_)
  · replace hf := if_t c_3 hf
    refine lv_aload_n hx hy dX0_image_68 rfl (lv_at hl 0 rfl) ?_
    refine x_gF (ok := okC u_1.1) X K O.1 6 rfl LC_0 rfl rfl in_X0 (by decide) q379 dX0_image_69 ?_
    refine lv_aload_n hx hy dX0_image_72 rfl (lv_at hl 0 rfl) ?_
    refine x_gF (ok := okC u_1.1) X K O.1 8 rfl LC_0 rfl rfl in_X0 (by decide) q382 dX0_image_73 ?_
    obtain ⟨σ_5, hg, hf⟩ := bn1_s hf
    obtain ⟨u_4, eu_4, hf⟩ := lt1_s hf
    refine x_callr (x_runV (As := [.ref ((hC hs) 1 2 0)]) (rest := []) X K O.1 (xct_obj (ok := okC u_1.1) rfl LC_1) rfl (m_C_X1_takes rfl rfl hg) EN_b EN_h (lw_V q1099 q1100 q1101 q119 q1102) 1 rfl hl.1 (Nat.le_of_ble_eq_true rfl) hdV_X1_takes ⟨(by decide), by decide⟩ hb.r dX0_image_76) (fun r _ H9 locs9 hp O9 hle => ?_)
    refine W.sz (fun hz => ?_)
    obtain ⟨rfl, rfl⟩ := hp
    have O := O.call O9 hle hb hz
    rw [← eu_4] at O
    have hb := hb.mv eu_4
    refine lv_pop hx hy dX0_image_79 rfl ?_
    refine lv_iconst (v := 1) hx hy dX0_image_80 (by decide) ?_
    exact y_zret X O hb rfl rfl (Option.some.inj hf).symm dX0_image_81
  · replace hf := if_f c_3 hf
    refine lv_aload_n hx hy dX0_image_53 rfl (lv_at hl 0 rfl) ?_
    refine x_gF (ok := okC u_1.1) X K O.1 8 rfl LC_0 rfl rfl in_X0 (by decide) q382 dX0_image_54 ?_
    refine lv_aload_n hx hy dX0_image_57 rfl (lv_at hl 0 rfl) ?_
    refine x_gF (ok := okC u_1.1) X K O.1 6 rfl LC_0 rfl rfl in_X0 (by decide) q379 dX0_image_58 ?_
    obtain ⟨σ_7, hg, hf⟩ := bn1_s hf
    obtain ⟨u_6, eu_6, hf⟩ := lt1_s hf
    refine x_callr (x_runV (As := [.ref ((hC hs) 1 0 0)]) (rest := []) X K O.1 (xct_obj (ok := okC u_1.1) rfl LC_1) rfl (m_C_X1_takes rfl rfl hg) EN_b EN_h (lw_V q1099 q1100 q1101 q119 q1102) 1 rfl hl.1 (Nat.le_of_ble_eq_true rfl) hdV_X1_takes ⟨(by decide), by decide⟩ hb.r dX0_image_61) (fun r _ H9 locs9 hp O9 hle => ?_)
    refine W.sz (fun hz => ?_)
    obtain ⟨rfl, rfl⟩ := hp
    have O := O.call O9 hle hb hz
    rw [← eu_6] at O
    have hb := hb.mv eu_6
    refine lv_pop hx hy dX0_image_64 rfl ?_
    refine lv_goto (tgt := 80) hx hy dX0_image_65 (by decide) ?_
    refine lv_iconst (v := 1) hx hy dX0_image_80 (by decide) ?_
    exact y_zret X O hb rfl rfl (Option.some.inj hf).symm dX0_image_81
def C_X0_image_b31 (e0 : Nat) (u : PS) (x1 : Int32) (s0a : Nat) : Option (RX Int32) :=
  (if x1 = 0 then ck (okC u.1 20 (gR u.2.2 0 0 0 3) 0) (C_X0_image_b46 e0 u x1 s0a (gR u.2.2 0 0 0 3)) else ck (okC u.1 20 (gR u.2.2 0 0 0 2) 0) (C_X0_image_b46 e0 u x1 s0a (gR u.2.2 0 0 0 2)))
theorem w_C_X0_image_b31 {adK adV : Nat → Nat} {e0 : Nat} (X : FX p m c meth s args RX0 cX0_image 2 (some .boolean)) (K : XK D d A s) (hE : ES adK adV e0 A s) (htr0 : l.stackTraces = false) (htab : ∀ x ∈ c.exceptionTable.toList, False) {z : RX Int32} : ∀ (u : PS) (x1 : Int32) (s0a : Nat) (ks0 : okC u.1 20 s0a 0 = true) (ls : Array Slot) (H : Heap) (locs : List Loc) (cs sl : Nat), YH D A s.heap hs d u H locs → CB s u (rN z) cs sl → lv_has ls 2 [(0, .ref ((hC hs) 0 0 0)), (1, .int x1)] → C_X0_image_b31 e0 u x1 s0a = some z → W p l e (rmD 12 (rN z - s.heap.size) (22 * (rN z - s.heap.size))) s m args below meth c H locs cs sl (vy_MQ below (Yi D hs d z A) (YX D hs d z A) args s (rN z - s.heap.size) (22 * (rN z - s.heap.size)) A) (F0 m 31 ls [.ref ((hC hs) 20 s0a 0)]) := by
  have hx := X.1.1; have hy := X.1.2.1
  intro u x1 s0a ks0 ls H locs cs sl O hb hl hf
  rw [C_X0_image_b31] at hf
  refine lv_iload_n hx hy dX0_image_31 rfl (lv_at hl 1 rfl) ?_
  refine lv_if_eq (tgt := 42) hx hy dX0_image_32 (by decide) (fun c_1 => ?_) (fun c_1 => ?_)
  · replace hf := if_t c_1 hf
    refine lv_aload_n hx hy dX0_image_42 rfl (lv_at hl 0 rfl) ?_
    obtain ⟨c_2, hf⟩ := ck_s hf
    refine x_gR (ok := okC u.1) X K O.1 3 rfl LC_0 rfl rfl in_X0 (by decide) q376 dX0_image_43 ?_
    exact w_C_X0_image_b46 X K hE htr0 htab _ _ _ _ ks0 c_2 ls _ _ _ _ O hb (lv_sub hl [0, 1] rfl) hf
  · replace hf := if_f c_1 hf
    refine lv_aload_n hx hy dX0_image_35 rfl (lv_at hl 0 rfl) ?_
    obtain ⟨c_3, hf⟩ := ck_s hf
    refine x_gR (ok := okC u.1) X K O.1 2 rfl LC_0 rfl rfl in_X0 (by decide) q374 dX0_image_36 ?_
    refine lv_goto (tgt := 46) hx hy dX0_image_39 (by decide) ?_
    exact w_C_X0_image_b46 X K hE htr0 htab _ _ _ _ ks0 c_3 ls _ _ _ _ O hb (lv_sub hl [0, 1] rfl) hf
def C_X0_image_b16 (e0 : Nat) (u : PS) (x1 : Int32) : Option (RX Int32) :=
  (if x1 = 0 then ck (okC u.1 20 (gR u.2.2 0 0 0 2) 0) (C_X0_image_b31 e0 u x1 (gR u.2.2 0 0 0 2)) else ck (okC u.1 20 (gR u.2.2 0 0 0 3) 0) (C_X0_image_b31 e0 u x1 (gR u.2.2 0 0 0 3)))
theorem w_C_X0_image_b16 {adK adV : Nat → Nat} {e0 : Nat} (X : FX p m c meth s args RX0 cX0_image 2 (some .boolean)) (K : XK D d A s) (hE : ES adK adV e0 A s) (htr0 : l.stackTraces = false) (htab : ∀ x ∈ c.exceptionTable.toList, False) {z : RX Int32} : ∀ (u : PS) (x1 : Int32) (ls : Array Slot) (H : Heap) (locs : List Loc) (cs sl : Nat), YH D A s.heap hs d u H locs → CB s u (rN z) cs sl → lv_has ls 2 [(0, .ref ((hC hs) 0 0 0)), (1, .int x1)] → C_X0_image_b16 e0 u x1 = some z → W p l e (rmD 12 (rN z - s.heap.size) (22 * (rN z - s.heap.size))) s m args below meth c H locs cs sl (vy_MQ below (Yi D hs d z A) (YX D hs d z A) args s (rN z - s.heap.size) (22 * (rN z - s.heap.size)) A) (F0 m 16 ls []) := by
  have hx := X.1.1; have hy := X.1.2.1
  intro u x1 ls H locs cs sl O hb hl hf
  rw [C_X0_image_b16] at hf
  refine lv_iload_n hx hy dX0_image_16 rfl (lv_at hl 1 rfl) ?_
  refine lv_if_eq (tgt := 27) hx hy dX0_image_17 (by decide) (fun c_1 => ?_) (fun c_1 => ?_)
  · replace hf := if_t c_1 hf
    refine lv_aload_n hx hy dX0_image_27 rfl (lv_at hl 0 rfl) ?_
    obtain ⟨c_2, hf⟩ := ck_s hf
    refine x_gR (ok := okC u.1) X K O.1 2 rfl LC_0 rfl rfl in_X0 (by decide) q374 dX0_image_28 ?_
    exact w_C_X0_image_b31 X K hE htr0 htab _ _ _ c_2 ls _ _ _ _ O hb (lv_sub hl [0, 1] rfl) hf
  · replace hf := if_f c_1 hf
    refine lv_aload_n hx hy dX0_image_20 rfl (lv_at hl 0 rfl) ?_
    obtain ⟨c_3, hf⟩ := ck_s hf
    refine x_gR (ok := okC u.1) X K O.1 3 rfl LC_0 rfl rfl in_X0 (by decide) q376 dX0_image_21 ?_
    refine lv_goto (tgt := 31) hx hy dX0_image_24 (by decide) ?_
    exact w_C_X0_image_b31 X K hE htr0 htab _ _ _ c_3 ls _ _ _ _ O hb (lv_sub hl [0, 1] rfl) hf
def C_X0_image (e0 : Nat) (u : PS) (p1 : Int32) : Option (RX Int32) :=
  ckm u ((if p1 = 0 then ck (okC u.1 20 (gR u.2.2 0 0 0 3) 0) (bn2 (C_J2_isEmpty u.1 (gR u.2.2 0 0 0 3) u.2.2) (fun σ_5 r_4 => lt1 (pss u σ_5) (fun u_3 => (if r_4 = 0 then C_X0_image_b16 e0 u_3 p1 else some (.inl (u_3, 0)))))) else C_X0_image_b16 e0 u p1))
theorem m_C_X0_image {l : Launch} {D : va_G} {d : Nat → ClassId} {hs : IX} {adK adV : Nat → Nat} {e0 : Nat} {p1 : Int32} {u : PS} {z : RX Int32} (htr0 : l.stackTraces = false) (hf : C_X0_image e0 u p1 = some z) : YM l D d (ES adK adV e0) yX0_image cX0_image 2 (some .boolean) 12 [.ref ((hC hs) 0 0 0), .int p1] hs u z (Yi D hs d z) := by
  rw [C_X0_image] at hf
  obtain ⟨hm, hf⟩ := ckm_s hf
  refine YM.of2 hm (by decide +kernel) (Nat.le_of_ble_eq_true rfl) ?_
  intro p e s m below meth c A ls X htab K hE O hb hl
  have hl : lv_has ls 2 [(0, .ref ((hC hs) 0 0 0)), (1, .int p1)] := hl
  have hx := X.1.1; have hy := X.1.2.1
  refine lv_iload_n hx hy dX0_image_0 rfl (lv_at hl 1 rfl) ?_
  refine lv_if_ne (tgt := 16) hx hy dX0_image_1 (by decide) (fun c_1 => ?_) (fun c_1 => ?_)
  · replace hf := if_f c_1 hf
    exact w_C_X0_image_b16 X K hE htr0 htab _ _ ls _ _ _ _ O hb (lv_sub hl [0, 1] rfl) hf
  · replace hf := if_t c_1 hf
    refine lv_aload_n hx hy dX0_image_4 rfl (lv_at hl 0 rfl) ?_
    obtain ⟨c_2, hf⟩ := ck_s hf
    refine x_gR (ok := okC u.1) X K O.1 3 rfl LC_0 rfl rfl in_X0 (by decide) q376 dX0_image_5 ?_
    obtain ⟨σ_5, r_4, hg, hf⟩ := bn2_s hf
    obtain ⟨u_3, eu_3, hf⟩ := lt1_s hf
    refine x_calli (x_runV (As := []) (rest := []) X K O.1 (xct_obj c_2 LC_20) rfl (m_C_J2_isEmpty c_2 hg) EN_b EN_h (lw_V q1128 q1129 q1130 q114 q1131) 0 rfl hl.1 (Nat.le_of_ble_eq_true rfl) hdV_J2_isEmpty ⟨(by decide), by decide⟩ hb.r dX0_image_8) (fun r _ H9 locs9 hp O9 hle => ?_)
    refine W.sz (fun hz => ?_)
    cases hp
    have O := O.call O9 hle hb hz
    rw [← eu_3] at O
    have hb := hb.mv eu_3
    refine lv_if_eq (tgt := 16) hx hy dX0_image_11 (by decide) (fun c_6 => ?_) (fun c_6 => ?_)
    · replace hf := if_t c_6 hf
      exact w_C_X0_image_b16 X K hE htr0 htab _ _ ls _ _ _ _ O hb (lv_sub hl [0, 1] rfl) hf
    · replace hf := if_f c_6 hf
      refine lv_iconst (v := 0) hx hy dX0_image_14 (by decide) ?_
      exact y_zret X O hb rfl rfl (Option.some.inj hf).symm dX0_image_15
end YW
