section YW
variable {p : Program} {l : Launch} {e : Env} {s : State} {m : MethodId} {args : Array Value} {below : List Frame} {meth : Method} {c : Code} {D : va_G} {A : Nat → Prop} {hs : IX} {d : Nat → ClassId}

def C_J2_set (e0 : Nat) (v : Nat) (p2 : Nat) (u : PS) (p1 : Int32) : Option (RX Nat) :=
  ckm u (bn2 (C_J12_checkIndex u.1 u.2.2 p1 (gI u.2.2 20 v 0 2)) (fun σ_3 r_2 => lt1 (pss u σ_3) (fun u_1 => bn2 (C_J2_elementData u_1.1 v u_1.2.2 p1) (fun σ_6 r_5 => lt1 (pss u_1 σ_6) (fun u_4 => ck (okC u_4.1 21 (gR u_4.2.2 20 v 0 1) 0) (ck (okI p1 (LC_21n u_4.1 (gR u_4.2.2 20 v 0 1))) (ck (elo u_4.1 p2) (lt1 (pss u_4 (sR u_4.2.2 21 (gR u_4.2.2 20 v 0 1) 0 (Int32.toNatClampNeg p1) (p2 + 1))) (fun u_9 => some (.inl (u_9, r_5)))))))))))
theorem m_C_J2_set {l : Launch} {D : va_G} {d : Nat → ClassId} {hs : IX} {adK adV : Nat → Nat} {e0 : Nat} {v : Nat} {p1 : Int32} {p2 : Nat} {u : PS} {z : RX Nat} (htr0 : l.stackTraces = false) (hk : okC u.1 20 v 0 = true) (hf : C_J2_set e0 v p2 u p1 = some z) : YM l D d (ES adK adV e0) yJ2_set cJ2_set 4 (some (.object "java/lang/Object")) 5 [.ref ((hC hs) 20 v 0), .int p1, .ref p2] hs u z (Yr D hs d z) := by
  rw [C_J2_set] at hf
  obtain ⟨hm, hf⟩ := ckm_s hf
  refine YM.of2 hm (by decide +kernel) (Nat.le_of_ble_eq_true rfl) ?_
  intro p e s m below meth c A ls X htab K hE O hb hl
  have hl : lv_has ls 4 [(0, .ref ((hC hs) 20 v 0)), (1, .int p1), (2, .ref p2)] := hl
  have hx := X.1.1; have hy := X.1.2.1
  refine lv_iload_n hx hy dJ2_set_0 rfl (lv_at hl 1 rfl) ?_
  refine lv_aload_n hx hy dJ2_set_1 rfl (lv_at hl 0 rfl) ?_
  refine x_gI X K O.1 2 hk LC_20 rfl rfl in_J2 (by decide) q163 dJ2_set_2 ?_
  obtain ⟨σ_3, r_2, hg, hf⟩ := bn2_s hf
  obtain ⟨u_1, eu_1, hf⟩ := lt1_s hf
  refine x_calli (x_runS (As := [.int p1, .int (gI u.2.2 20 v 0 2)]) (rest := []) X K O.1 (m_C_J12_checkIndex hg) EN_b EN_h (lw_S q766 q767 q139 q768) 2 rfl hl.1 (Nat.le_of_ble_eq_true rfl) hdS_J12_checkIndex ⟨(by decide), by decide⟩ hb.r dJ2_set_5) (fun r _ H9 locs9 hp O9 hle => ?_)
  refine W.sz (fun hz => ?_)
  cases hp
  have O := O.call O9 hle hb hz
  rw [← eu_1] at O
  have hb := hb.mv eu_1
  have hk : okC u_1.1 20 v 0 = true := by rw [eu_1]; exact hk
  refine lv_pop hx hy dJ2_set_8 rfl ?_
  refine lv_aload_n hx hy dJ2_set_9 rfl (lv_at hl 0 rfl) ?_
  refine lv_iload_n hx hy dJ2_set_10 rfl (lv_at hl 1 rfl) ?_
  obtain ⟨σ_6, r_5, hg, hf⟩ := bn2_s hf
  obtain ⟨u_4, eu_4, hf⟩ := lt1_s hf
  refine x_callr (x_runV (As := [.int p1]) (rest := []) X K O.1 (xct_obj hk LC_20) rfl (m_C_J2_elementData hk hg) EN_b EN_h (lw_V q770 q771 q772 q114 q773) 1 rfl hl.1 (Nat.le_of_ble_eq_true rfl) hdV_J2_elementData ⟨(by decide), by decide⟩ hb.r dJ2_set_11) (fun r _ H9 locs9 hp O9 hle => ?_)
  refine W.sz (fun hz => ?_)
  cases hp
  have O := O.call O9 hle hb hz
  rw [← eu_4] at O
  have hb := hb.mv eu_4
  have hk : okC u_4.1 20 v 0 = true := by rw [eu_4]; exact hk
  refine lv_astore_n (lv' := [(3, .ref r_5), (0, .ref ((hC hs) 20 v 0)), (1, .int p1), (2, .ref p2)]) hx hy dJ2_set_14 rfl hl (by decide) rfl (fun ls hl => ?_)
  refine lv_aload_n hx hy dJ2_set_15 rfl (lv_at hl 1 rfl) ?_
  refine x_gR X K O.1 1 hk LC_20 rfl rfl in_J2 (by decide) q162 dJ2_set_16 ?_
  refine x_top (w := .ref (gR u_4.2.2 20 v 0 1)) rfl ?_
  refine lv_iload_n hx hy dJ2_set_19 rfl (lv_at hl 2 rfl) ?_
  refine lv_aload_n hx hy dJ2_set_20 rfl (lv_at hl 3 rfl) ?_
  obtain ⟨c_7, hf⟩ := ck_s hf
  obtain ⟨c_8, hf⟩ := ck_s hf
  obtain ⟨c_10, hf⟩ := ck_s hf
  obtain ⟨u_9, eu_9, hf⟩ := lt1_s hf
  refine y_ast X K O hb c_7 c_8 rfl c_10 dJ2_set_21 (fun H9 locs9 O => ?_)
  rw [← eu_9] at O
  have hb := hb.mv eu_9
  have hk : okC u_9.1 20 v 0 = true := by rw [eu_9]; exact hk
  refine lv_aload_n hx hy dJ2_set_22 rfl (lv_at hl 0 rfl) ?_
  exact y_aret X O hb rfl (Or.inl ⟨_, rfl⟩) (Option.some.inj hf).symm dJ2_set_23
def C_J2_clear_b27 (e0 : Nat) (v : Nat) : Nat → PS → Nat → Int32 → Int32 → Option (RX Unit)
  | 0, _, _, _, _ => none
  | n + 1, u, x1, x2, x3 =>
    (if x2 ≤ x3 then some (.inl (u, ())) else ck (okC u.1 21 x1 0) (ck (okI x3 (LC_21n u.1 x1)) (lt1 (pss u (sR u.2.2 21 x1 0 (Int32.toNatClampNeg x3) 0)) (fun u_4 => lt1 (x3 + 1) (fun x3_5 => (C_J2_clear_b27 e0 v n) u_4 x1 x2 x3_5)))))
theorem w_C_J2_clear_b27 {adK adV : Nat → Nat} {e0 : Nat} {v : Nat} (X : FX p m c meth s args RJ2 cJ2_clear 4 none) (K : XK D d A s) (hE : ES adK adV e0 A s) (htr0 : l.stackTraces = false) (htab : ∀ x ∈ c.exceptionTable.toList, False) {z : RX Unit} : ∀ (n : Nat) (u : PS) (x1 : Nat) (x2 : Int32) (x3 : Int32) (hk : okC u.1 20 v 0 = true) (ls : Array Slot) (H : Heap) (locs : List Loc) (cs sl : Nat), YH D A s.heap hs d u H locs → CB s u (rN z) cs sl → lv_has ls 4 [(1, .ref x1), (2, .int x2), (3, .int x3)] → C_J2_clear_b27 e0 v n u x1 x2 x3 = some z → W p l e (rmD 5 (rN z - s.heap.size) (22 * (rN z - s.heap.size))) s m args below meth c H locs cs sl (vy_MQ below (Yv D hs d z A) (YX D hs d z A) args s (rN z - s.heap.size) (22 * (rN z - s.heap.size)) A) (F0 m 27 ls []) := by
  have hx := X.1.1; have hy := X.1.2.1
  intro n
  induction n with
  | zero =>
    intro u x1 x2 x3 hk ls H locs cs sl O hb hl hf
    exact absurd hf (fun q => by cases q)
  | succ n ih =>
    intro u x1 x2 x3 hk ls H locs cs sl O hb hl hf
    rw [C_J2_clear_b27] at hf
    refine lv_iload_n hx hy dJ2_clear_27 rfl (lv_at hl 2 rfl) ?_
    refine lv_iload_n hx hy dJ2_clear_28 rfl (lv_at hl 1 rfl) ?_
    refine lv_icmp_ge (tgt := 42) hx hy dJ2_clear_29 (by decide) (fun c_1 => ?_) (fun c_1 => ?_)
    · replace hf := if_t c_1 hf
      exact y_vret X O hb rfl (Option.some.inj hf).symm dJ2_clear_42
    · replace hf := if_f c_1 hf
      refine lv_aload_n hx hy dJ2_clear_32 rfl (lv_at hl 0 rfl) ?_
      refine lv_iload_n hx hy dJ2_clear_33 rfl (lv_at hl 2 rfl) ?_
      refine lv_null hx hy dJ2_clear_34 ?_
      obtain ⟨c_2, hf⟩ := ck_s hf
      obtain ⟨c_3, hf⟩ := ck_s hf
      obtain ⟨u_4, eu_4, hf⟩ := lt1_s hf
      refine y_astN X K O hb c_2 c_3 rfl dJ2_clear_35 (fun H9 locs9 O => ?_)
      rw [← eu_4] at O
      have hb := hb.mv eu_4
      have hk : okC u_4.1 20 v 0 = true := by rw [eu_4]; exact hk
      obtain ⟨x3_5, ex3_5, hf⟩ := lt1_s hf
      refine lv_iinc (v := x3_5) (lv' := [(3, .int x3_5), (1, .ref x1), (2, .int x2)]) hx hy dJ2_clear_36 hl (k := 2) rfl (by rw [ex3_5]; rfl) (by decide) rfl (fun ls hl => ?_)
      refine lv_goto (tgt := 27) hx hy dJ2_clear_39 (by decide) ?_
      exact ih _ _ _ _ hk ls _ _ _ _ O hb (lv_sub hl [1, 2, 0] rfl) hf
def C_J2_clear (e0 : Nat) (v : Nat) (u : PS) : Option (RX Unit) :=
  ckm u (lt1 (pss u (sI u.2.2 20 v 0 0 ((gI u.2.2 20 v 0 0) + 1))) (fun u_1 => lt1 (gI u_1.2.2 20 v 0 2) (fun x2_2 => lt1 (pss u_1 (sI u_1.2.2 20 v 0 2 0)) (fun u_3 => C_J2_clear_b27 e0 v FUEL u_3 (gR u_1.2.2 20 v 0 1) x2_2 0))))
theorem m_C_J2_clear {l : Launch} {D : va_G} {d : Nat → ClassId} {hs : IX} {adK adV : Nat → Nat} {e0 : Nat} {v : Nat} {u : PS} {z : RX Unit} (htr0 : l.stackTraces = false) (hk : okC u.1 20 v 0 = true) (hf : C_J2_clear e0 v u = some z) : YM l D d (ES adK adV e0) yJ2_clear cJ2_clear 4 none 5 [.ref ((hC hs) 20 v 0)] hs u z (Yv D hs d z) := by
  rw [C_J2_clear] at hf
  obtain ⟨hm, hf⟩ := ckm_s hf
  refine YM.of2 hm (by decide +kernel) (Nat.le_of_ble_eq_true rfl) ?_
  intro p e s m below meth c A ls X htab K hE O hb hl
  have hl : lv_has ls 4 [(0, .ref ((hC hs) 20 v 0))] := hl
  have hx := X.1.1; have hy := X.1.2.1
  refine lv_aload_n hx hy dJ2_clear_0 rfl (lv_at hl 0 rfl) ?_
  refine lv_dup hx hy dJ2_clear_1 rfl ?_
  refine y_gmc X K O hk dJ2_clear_2 ?_
  refine lv_iconst (v := 1) hx hy dJ2_clear_5 (by decide) ?_
  refine lv_iadd hx hy dJ2_clear_6 ?_
  obtain ⟨u_1, eu_1, hf⟩ := lt1_s hf
  refine y_pmc X K O hb hk dJ2_clear_7 (fun H9 locs9 O => ?_)
  rw [← eu_1] at O
  have hb := hb.mv eu_1
  have hk : okC u_1.1 20 v 0 = true := by rw [eu_1]; exact hk
  refine lv_aload_n hx hy dJ2_clear_10 rfl (lv_at hl 0 rfl) ?_
  refine x_gR X K O.1 1 hk LC_20 rfl rfl in_J2 (by decide) q162 dJ2_clear_11 ?_
  refine x_top (w := .ref (gR u_1.2.2 20 v 0 1)) rfl ?_
  refine lv_astore_n (lv' := [(1, .ref (gR u_1.2.2 20 v 0 1)), (0, .ref ((hC hs) 20 v 0))]) hx hy dJ2_clear_14 rfl hl (by decide) rfl (fun ls hl => ?_)
  refine lv_aload_n hx hy dJ2_clear_15 rfl (lv_at hl 1 rfl) ?_
  refine x_gI X K O.1 2 hk LC_20 rfl rfl in_J2 (by decide) q163 dJ2_clear_16 ?_
  obtain ⟨x2_2, ex2_2, hf⟩ := lt1_s hf
  refine x_top (w := .int x2_2) (by rw [ex2_2]) ?_
  refine lv_istore_n (lv' := [(2, .int x2_2), (1, .ref (gR u_1.2.2 20 v 0 1)), (0, .ref ((hC hs) 20 v 0))]) hx hy dJ2_clear_19 rfl hl (by decide) rfl (fun ls hl => ?_)
  refine lv_aload_n hx hy dJ2_clear_20 rfl (lv_at hl 2 rfl) ?_
  refine lv_iconst (v := 0) hx hy dJ2_clear_21 (by decide) ?_
  refine lv_dup_x1 hx hy dJ2_clear_22 rfl rfl ?_
  obtain ⟨u_3, eu_3, hf⟩ := lt1_s hf
  refine x_pI X K O.1.self 2 hk LC_20 rfl rfl in_J2 tyJ2_ok nmJ2 (by decide) q163 rfl rfl rfl dJ2_clear_23 (fun H9 locs9 O9 => ?_)
  refine W.sz (fun hz => ?_)
  have O := O.put O9 hb hz
  rw [← eu_3] at O
  have hb := hb.mv eu_3
  have hk : okC u_3.1 20 v 0 = true := by rw [eu_3]; exact hk
  refine lv_istore_n (lv' := [(3, .int 0), (2, .int x2_2), (1, .ref (gR u_1.2.2 20 v 0 1)), (0, .ref ((hC hs) 20 v 0))]) hx hy dJ2_clear_26 rfl hl (by decide) rfl (fun ls hl => ?_)
  exact w_C_J2_clear_b27 X K hE htr0 htab _ _ _ _ _ hk ls _ _ _ _ O hb (lv_sub hl [2, 1, 0] rfl) hf
end YW
