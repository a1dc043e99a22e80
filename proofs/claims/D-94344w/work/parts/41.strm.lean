section XS
variable {p : Program} {l : Launch} {e : Env} {s : State} {m : MethodId} {args : Array Value} {below : List Frame} {meth : Method} {c : Code} {H : Heap} {locs : List Loc} {cells slots : Nat} {Q : State → Prop}
variable {cc : ByteArray} {nL : Nat} {ret : Option FieldType} {own : String} {pc : Nat} {ls : Array Slot} {rest : List Value} {D : va_G} {A : Nat → Prop} {h : IX} {d : Nat → ClassId}
theorem x_runVE (X : FX p m c meth s args own cc nL ret) (K : XK D d A s) {ct : CT} (O : XH D A s.heap h ct H locs) {y : MethodName} {cc' : ByteArray} {nL' : Nat} {ret' : Option FieldType} {E : XE} {dd dd' mc ms mc0 ms0 : Nat} {Qf : (Nat → Prop) → Array Value → State → Outcome → State → Prop} {As : List Value} {bb : Nat} {C : String} (hrv : ∃ cell : Cell, H[bb]? = some cell ∧ cell.vm.isStatics = false ∧ s.vm.findClass C = some cell.cls) {idx : Nat} (hM : XM l D d E y cc' nL' ret' dd' mc ms (.ref bb :: As) h ct Qf) (hEb : ∀ (B : Nat → Prop) (U : State) (g : JFrame) (mk : MethodId) (a : Array Value), E B U → E B (U.calling g mk a)) (hE : ∀ (B : Nat → Prop) (U : State), (∀ q, B q → A q) → U.heap = H → s.WarmedH U.vm → va_S A s.heap H locs → E B U) (hw : GoodIn lw_all (wsV own idx C y (ws_ y cc' nL' ret'))) (n : Nat) (hn : As.length = n) (hsize : ls.size = nL) (hW : (rest.map fun v => v.category).sum ≤ 8) (hd : y.cls = C ∧ y.cls ≠ "java/lang/invoke/MethodHandle" ∧ y.cls ≠ "java/lang/invoke/VarHandle" ∧ (parseMethodDescriptor y.desc).map (fun d => d.parameters.length) = some n) (hR : dd' < dd ∧ nL' ≤ 41) (hf : cells + mc ≤ mc0 ∧ slots + ms ≤ ms0) (hdg : decode cc pc = .ok (.invokevirtual idx, 3)) : ∃ ws : va_W, va_D A ws ∧ va_S A s.heap H locs ∧ (∀ q, va_A ws H.size q → A q) ∧ va_Run p l e (rmD dd mc0 ms0) s m args below meth c H locs cells slots mc ms (F0 m pc ls (As.reverse ++ .ref bb :: rest)) rest (Qf (va_A ws H.size) (.ref bb :: As).toArray) (va_A ws H.size) := by
  obtain ⟨ws, ix, hP, hD, hS, r⟩ := O
  have hFc : ∀ q, va_A ws H.size q → A q := by
    intro q hq
    rcases hq with ⟨k, e, hk⟩ | hq
    · exact hD.2 k _ hk
    · exact K.2.2 q (Nat.le_trans hS.1 hq)
  have hRR : (rmD dd' mc ms).frames + 1 ≤ (rmD dd mc0 ms0).frames ∧ 8 + (nL' + 11) + (rmD dd' mc ms).locals ≤ (rmD dd mc0 ms0).locals := by
    show dd' + 1 ≤ dd ∧ 8 + (nL' + 11) + 60 * dd' ≤ 60 * dd
    omega
  exact ⟨ws, hD, hS, hFc, va_runV (C := C) X.1 (hM ws H.size) (cwV n X.1.2.2.2.2 hw rfl rfl rfl hd hRR) ⟨fun a U g mk q => by obtain ⟨q0, q1, q2, q3, q4, q5, q6, q7⟩ := q; exact ⟨q0, q1, q2, q3, q4, va_K.moved (u := U) (U := U.calling g mk a) (Vm.Alike.refl U.vm) q5, q6.calling, hEb _ _ _ _ _ q7⟩, hrv, fun U hU hW => ⟨rfl, by rw [hU], by rw [hU]; exact hP, hD.weaken (fun _ _ _ _ => trivial), ⟨ix, r⟩, va_K.moved hW.alike K.1, K.2.1.warm hW, hE _ U hFc hU hW hS⟩⟩ rfl hn hsize rfl (lv_room hW) hdg hf⟩
theorem x_nret {R : Room} (X : FX p m c meth s args own cc nL ret) {ct : CT} (O : XH D A s.heap h ct H locs) {S : Type} {post : Int32 → S → Prop} {cto : S → IX × CT} {ty : FieldType} (hret : ret = some ty) {v : Int32} (hn : narrow ty (.int v) = .int v) (u : S) (hp : post v u) (hct : cto u = (h, ct)) (hdg : decode cc pc = .ok (.ireturn, 1)) : W p l e R s m args below meth c H locs cells slots (MQ below (Qi D post cto A) args s cells slots A) (F0 m pc ls [.int v]) := by
  obtain ⟨ws, ix, hP, hD, hS, r⟩ := O
  have hlocks := X.2.2
  exact W.zret X.1.1 X.1.2.1 (X.2.1.trans hret) hn (fun t ht hW => ⟨⟨v, u, rfl, hp, ws, ix, by rw [ht]; exact hP, hD, by rw [hct]; exact r⟩, hS.F ht⟩) hS.2.2 hdg
end XS
theorem XH.S {D : va_G} {A : Nat → Prop} {H0 : Heap} {h : IX} {ct : CT} {H : Heap} {locs : List Loc} (O : XH D A H0 h ct H locs) : va_S A H0 H locs := by
  obtain ⟨ws, ix, hP, hD, hS, r⟩ := O
  exact hS
theorem hdV_J6_coder : (yJ6_coder.cls = RJ6 ∧ yJ6_coder.cls ≠ "java/lang/invoke/MethodHandle" ∧ yJ6_coder.cls ≠ "java/lang/invoke/VarHandle" ∧ (parseMethodDescriptor yJ6_coder.desc).map (fun d => d.parameters.length) = some 0) := by decide +kernel
theorem hdV_J6_isLatin1 : (yJ6_isLatin1.cls = RJ6 ∧ yJ6_isLatin1.cls ≠ "java/lang/invoke/MethodHandle" ∧ yJ6_isLatin1.cls ≠ "java/lang/invoke/VarHandle" ∧ (parseMethodDescriptor yJ6_isLatin1.desc).map (fun d => d.parameters.length) = some 0) := by decide +kernel
theorem hdV_J6_length : (yJ6_length.cls = RJ6 ∧ yJ6_length.cls ≠ "java/lang/invoke/MethodHandle" ∧ yJ6_length.cls ≠ "java/lang/invoke/VarHandle" ∧ (parseMethodDescriptor yJ6_length.desc).map (fun d => d.parameters.length) = some 0) := by decide +kernel
theorem hdV_J6_charAt : (yJ6_charAt.cls = RJ6 ∧ yJ6_charAt.cls ≠ "java/lang/invoke/MethodHandle" ∧ yJ6_charAt.cls ≠ "java/lang/invoke/VarHandle" ∧ (parseMethodDescriptor yJ6_charAt.desc).map (fun d => d.parameters.length) = some 1) := by decide +kernel
theorem hdS_J6_checkIndex : (yJ6_checkIndex.cls ≠ "java/lang/invoke/MethodHandle" ∧ yJ6_checkIndex.cls ≠ "java/lang/invoke/VarHandle" ∧ (parseMethodDescriptor yJ6_checkIndex.desc).map (fun d => d.parameters.length) = some 2) := by decide +kernel
theorem hdS_J7_charAt : (yJ7_charAt.cls ≠ "java/lang/invoke/MethodHandle" ∧ yJ7_charAt.cls ≠ "java/lang/invoke/VarHandle" ∧ (parseMethodDescriptor yJ7_charAt.desc).map (fun d => d.parameters.length) = some 2) := by decide +kernel
def slen (i : Nat) : Int32 := Int32.ofNat (lenT.getD i 0)
def sbyt (i j : Nat) : Int32 := (bytT.getD i []).getD j 0
def schr (i j : Nat) : Int32 := ((sbyt i j &&& 255).toUInt32 % 65536).toInt32
theorem m_coder {l : Launch} {D : va_G} {d : Nat → ClassId} {h : IX} {ct : CT} {adK adV : Nat → Nat} {e0 : Nat} {i : Nat} (hi : i < 22) : XM l D d (ES adK adV e0) yJ6_coder cJ6_coder 1 (some .byte) 0 0 0 [.ref (adK i)] h ct (Qi D (fun (r : Int32) (_ : Unit) => r = 0) (fun _ : Unit => (h, ct))) := by
  refine XM.of (by decide +kernel) (Nat.le_of_ble_eq_true rfl) ?_
  intro p e s m below meth c A ls X _ K hE O hl
  have hx := X.1.1; have hb := X.1.2.1; have hown := X.1.2.2.2.1; have hts := X.1.2.2.2.2
  have hl : lv_has ls 1 [(0, .ref (adK i))] := hl
  refine va_gets hx hb hE.2.2.1 O.S hown (hts _ q520) (fun _ h => h) dJ6_coder_0 ?_
  refine lv_if_eq (tgt := 13) hx hb dJ6_coder_3 (by decide) (fun c1 => absurd c1 (by decide)) (fun c1 => ?_)
  refine lv_aload_n hx hb dJ6_coder_6 rfl (lv_at hl 0 rfl) ?_
  refine vk_getf hx hb (hE.1.1 i hi).2.1 O.S hown (hts _ q1737) (fun _ h => h) dJ6_coder_7 ?_
  refine lv_goto (tgt := 14) hx hb dJ6_coder_10 (by decide) ?_
  exact x_nret X O rfl rfl () rfl rfl dJ6_coder_14
theorem m_isLatin1 {l : Launch} {D : va_G} {d : Nat → ClassId} {h : IX} {ct : CT} {adK adV : Nat → Nat} {e0 : Nat} {i : Nat} (hi : i < 22) : XM l D d (ES adK adV e0) yJ6_isLatin1 cJ6_isLatin1 1 (some .boolean) 0 0 0 [.ref (adK i)] h ct (Qi D (fun (r : Int32) (_ : Unit) => r = 1) (fun _ : Unit => (h, ct))) := by
  refine XM.of (by decide +kernel) (Nat.le_of_ble_eq_true rfl) ?_
  intro p e s m below meth c A ls X _ K hE O hl
  have hx := X.1.1; have hb := X.1.2.1; have hown := X.1.2.2.2.1; have hts := X.1.2.2.2.2
  have hl : lv_has ls 1 [(0, .ref (adK i))] := hl
  refine va_gets hx hb hE.2.2.1 O.S hown (hts _ q520) (fun _ h => h) dJ6_isLatin1_0 ?_
  refine lv_if_eq (tgt := 17) hx hb dJ6_isLatin1_3 (by decide) (fun c1 => absurd c1 (by decide)) (fun c1 => ?_)
  refine lv_aload_n hx hb dJ6_isLatin1_6 rfl (lv_at hl 0 rfl) ?_
  refine vk_getf hx hb (hE.1.1 i hi).2.1 O.S hown (hts _ q1737) (fun _ h => h) dJ6_isLatin1_7 ?_
  refine lv_if_ne (tgt := 17) hx hb dJ6_isLatin1_10 (by decide) (fun c1 => absurd rfl c1) (fun c1 => ?_)
  refine lv_iconst (v := 1) hx hb dJ6_isLatin1_13 (by decide) ?_
  refine lv_goto (tgt := 18) hx hb dJ6_isLatin1_14 (by decide) ?_
  exact x_nret X O rfl rfl () rfl rfl dJ6_isLatin1_18
theorem lenT_len : lenT.length = 22 := rfl
theorem slen_shr (i : Nat) : slen i >>> ((0 : Int32) &&& 31) = slen i := sb_shr0 _
theorem m_length {l : Launch} {D : va_G} {d : Nat → ClassId} {h : IX} {ct : CT} {adK adV : Nat → Nat} {e0 : Nat} {i : Nat} (hi : i < 22) : XM l D d (ES adK adV e0) yJ6_length cJ6_length 1 (some .int) 1 0 0 [.ref (adK i)] h ct (Qi D (fun (r : Int32) (_ : Unit) => r = slen i) (fun _ : Unit => (h, ct))) := by
  refine XM.of (by decide +kernel) (Nat.le_of_ble_eq_true rfl) ?_
  intro p e s m below meth c A ls X _ K hE O hl
  have hx := X.1.1; have hb := X.1.2.1; have hown := X.1.2.2.2.1; have hts := X.1.2.2.2.2
  have hl : lv_has ls 1 [(0, .ref (adK i))] := hl
  refine lv_aload_n hx hb dJ6_length_0 rfl (lv_at hl 0 rfl) ?_
  refine vk_getf hx hb (hE.1.1 i hi).2.2.1 O.S hown (hts _ q1736) (fun _ h => h) dJ6_length_1 ?_
  refine va_tlen (v := slen i) hx hb (hE.1.1 i hi).2.2.2 O.S rfl dJ6_length_4 ?_
  refine lv_aload_n hx hb dJ6_length_5 rfl (lv_at hl 0 rfl) ?_
  refine x_calli (x_runVE (As := []) (rest := [.int (slen i)]) X K O (vk_recv hE.1 hi O.S) (m_coder hi) ES_b (ES_h hE) (lw_V q516 q517 q518 q126 q519) 0 rfl hl.1 (Nat.le_of_ble_eq_true rfl) hdV_J6_coder ⟨by decide, by decide⟩ ⟨Nat.le_refl _, Nat.le_refl _⟩ dJ6_length_6) (fun r u H locs hp O _ => ?_)
  subst hp
  refine lv_ishr hx hb dJ6_length_9 ?_
  refine x_top (w := .int (slen i)) (by rw [slen_shr]) ?_
  exact x_iret X O rfl () rfl rfl dJ6_length_10
theorem m_pre {l : Launch} {D : va_G} {d : Nat → ClassId} {h : IX} {ct : CT} {E : XE} {x n : Int32} {w : Option Nat} (h1 : ¬ x < 0) (h2 : x < n) : XM l D d E yJ8_checkIndex cJ8_checkIndex 3 (some .int) 0 0 0 [.int x, .int n, va_rf w] h ct (Qi D (fun (r : Int32) (_ : Unit) => r = x) (fun _ : Unit => (h, ct))) := by
  refine XM.of (by decide +kernel) (by cases w <;> exact Nat.le_of_ble_eq_true rfl) ?_
  intro p e s m below meth c A ls X _ K hE O hl
  have hx := X.1.1; have hb := X.1.2.1
  have hl : lv_has ls 3 [(0, .int x), (1, .int n)] := ⟨hl.1, hl.2.1, fun q hq => hl.2.2 q (by
    cases w <;> (simp only [List.mem_cons, List.not_mem_nil, or_false] at hq; rcases hq with rfl | rfl <;> simp [lv_args, va_rf, Value.category]))⟩
  refine lv_iload_n hx hb dJ8_checkIndex_0 rfl (lv_at hl 0 rfl) ?_
  refine lv_if_lt (tgt := 9) hx hb dJ8_checkIndex_1 (by decide) (fun c1 => absurd c1 h1) (fun c1 => ?_)
  refine lv_iload_n hx hb dJ8_checkIndex_4 rfl (lv_at hl 0 rfl) ?_
  refine lv_iload_n hx hb dJ8_checkIndex_5 rfl (lv_at hl 1 rfl) ?_
  refine lv_icmp_lt (tgt := 16) hx hb dJ8_checkIndex_6 (by decide) (fun c1 => ?_) (fun c1 => absurd h2 c1)
  refine lv_iload_n hx hb dJ8_checkIndex_16 rfl (lv_at hl 0 rfl) ?_
  exact x_iret X O rfl () rfl rfl dJ8_checkIndex_17
theorem m_ckS {l : Launch} {D : va_G} {d : Nat → ClassId} {h : IX} {ct : CT} {adK adV : Nat → Nat} {e0 : Nat} {x n : Int32} (h1 : ¬ x < 0) (h2 : x < n) : XM l D d (ES adK adV e0) yJ6_checkIndex cJ6_checkIndex 2 none 1 0 0 [.int x, .int n] h ct (Qv D (fun (_ : Unit) => True) (fun _ : Unit => (h, ct))) := by
  refine XM.of (by decide +kernel) (Nat.le_of_ble_eq_true rfl) ?_
  intro p e s m below meth c A ls X _ K hE O hl
  have hx := X.1.1; have hb := X.1.2.1; have hown := X.1.2.2.2.1; have hts := X.1.2.2.2.2
  have hl : lv_has ls 2 [(0, .int x), (1, .int n)] := hl
  refine lv_iload_n hx hb dJ6_checkIndex_0 rfl (lv_at hl 0 rfl) ?_
  refine lv_iload_n hx hb dJ6_checkIndex_1 rfl (lv_at hl 1 rfl) ?_
  have key : ∀ w : Option Nat, va_Z "jdk/internal/util/Preconditions" "SIOOBE_FORMATTER" "Ljava/util/function/BiFunction;" (va_rf w) A s s.heap → W p l e (rmD 1 0 0) s m ([.int x, .int n] : List Value).toArray below meth c s.heap [] 0 0 (MQ below (Qv D (fun (_ : Unit) => True) (fun _ : Unit => (h, ct)) A) ([.int x, .int n] : List Value).toArray s 0 0 A) (F0 m 2 ls [.int n, .int x]) := by
    intro w hw
    refine va_gets hx hb hw O.S hown (hts _ q536) (fun _ h => h) dJ6_checkIndex_2 ?_
    refine x_calli (x_runS (As := [.int x, .int n, va_rf w]) (rest := []) X K O (m_pre (E := ES adK adV e0) h1 h2) ES_b (ES_h hE) (lw_S q538 q539 q128 q540) 3 rfl hl.1 (Nat.le_of_ble_eq_true rfl) hdS_J8_checkIndex ⟨by decide, by decide⟩ ⟨Nat.le_refl _, Nat.le_refl _⟩ dJ6_checkIndex_5) (fun r u H locs hp O _ => ?_)
    refine lv_pop hx hb dJ6_checkIndex_8 rfl ?_
    exact x_vret X O rfl () trivial rfl dJ6_checkIndex_9
  rcases hE.2.2.2.1 with hz | ⟨t, hz⟩
  · exact key none hz
  · exact key (some t) hz
theorem m_chr1 {l : Launch} {D : va_G} {d : Nat → ClassId} {h : IX} {ct : CT} {adK adV : Nat → Nat} {e0 : Nat} {i : Nat} {x : Int32} (hi : i < 22) (hx1 : okI x (lenT.getD i 0) = true) (hx2 : x < slen i) : XM l D d (ES adK adV e0) yJ7_charAt cJ7_charAt 2 (some .char) 2 0 0 [.ref (adV i), .int x] h ct (Qi D (fun (r : Int32) (_ : Unit) => r = schr i x.toNatClampNeg) (fun _ : Unit => (h, ct))) := by
  refine XM.of (by decide +kernel) (Nat.le_of_ble_eq_true rfl) ?_
  intro p e s m below meth c A ls X _ K hE O hl
  have hx := X.1.1; have hb := X.1.2.1; have hown := X.1.2.2.2.1; have hts := X.1.2.2.2.2
  have hl : lv_has ls 2 [(0, .ref (adV i)), (1, .int x)] := hl
  refine lv_iload_n hx hb dJ7_charAt_0 rfl (lv_at hl 1 rfl) ?_
  refine lv_aload_n hx hb dJ7_charAt_1 rfl (lv_at hl 0 rfl) ?_
  refine va_tlen (v := slen i) hx hb (hE.1.1 i hi).2.2.2 O.S rfl dJ7_charAt_2 ?_
  refine x_callv (x_runS (As := [.int x, .int (slen i)]) (rest := []) X K O (m_ckS (fun q => okI_in hx1 (Or.inl q)) hx2) ES_b (ES_h hE) (lw_S q533 q534 q126 q535) 2 rfl hl.1 (Nat.le_of_ble_eq_true rfl) hdS_J6_checkIndex ⟨by decide, by decide⟩ ⟨Nat.le_refl _, Nat.le_refl _⟩ dJ7_charAt_3) (fun u H locs hp O _ => ?_)
  refine lv_aload_n hx hb dJ7_charAt_6 rfl (lv_at hl 0 rfl) ?_
  refine lv_iload_n hx hb dJ7_charAt_7 rfl (lv_at hl 1 rfl) ?_
  refine va_tb (v := .int (sbyt i x.toNatClampNeg)) hx hb (hE.1.1 i hi).2.2.2 O.S (okI_in hx1) rfl dJ7_charAt_8 ?_
  refine lv_sipush (v := 255) hx hb dJ7_charAt_9 (by decide) ?_
  refine lv_iand hx hb dJ7_charAt_12 ?_
  refine lv_i2c (v := schr i x.toNatClampNeg) hx hb dJ7_charAt_13 rfl ?_
  exact x_nret X O rfl (pk_nc _) () rfl rfl dJ7_charAt_14
theorem m_charAt {l : Launch} {D : va_G} {d : Nat → ClassId} {h : IX} {ct : CT} {adK adV : Nat → Nat} {e0 : Nat} {i : Nat} {x : Int32} (hi : i < 22) (hx1 : okI x (lenT.getD i 0) = true) (hx2 : x < slen i) : XM l D d (ES adK adV e0) yJ6_charAt cJ6_charAt 2 (some .char) 3 0 0 [.ref (adK i), .int x] h ct (Qi D (fun (r : Int32) (_ : Unit) => r = schr i x.toNatClampNeg) (fun _ : Unit => (h, ct))) := by
  refine XM.of (by decide +kernel) (Nat.le_of_ble_eq_true rfl) ?_
  intro p e s m below meth c A ls X _ K hE O hl
  have hx := X.1.1; have hb := X.1.2.1; have hown := X.1.2.2.2.1; have hts := X.1.2.2.2.2
  have hl : lv_has ls 2 [(0, .ref (adK i)), (1, .int x)] := hl
  refine lv_aload_n hx hb dJ6_charAt_0 rfl (lv_at hl 0 rfl) ?_
  refine x_calli (x_runVE (As := []) (rest := []) X K O (vk_recv hE.1 hi O.S) (m_isLatin1 hi) ES_b (ES_h hE) (lw_V q526 q527 q528 q126 q529) 0 rfl hl.1 (Nat.le_of_ble_eq_true rfl) hdV_J6_isLatin1 ⟨by decide, by decide⟩ ⟨Nat.le_refl _, Nat.le_refl _⟩ dJ6_charAt_1) (fun r u H locs hp O _ => ?_)
  subst hp
  refine lv_if_eq (tgt := 16) hx hb dJ6_charAt_4 (by decide) (fun c1 => absurd c1 (by decide)) (fun c1 => ?_)
  refine lv_aload_n hx hb dJ6_charAt_7 rfl (lv_at hl 0 rfl) ?_
  refine vk_getf hx hb (hE.1.1 i hi).2.2.1 O.S hown (hts _ q1736) (fun _ h => h) dJ6_charAt_8 ?_
  refine lv_iload_n hx hb dJ6_charAt_11 rfl (lv_at hl 1 rfl) ?_
  refine x_calli (x_runS (As := [.ref (adV i), .int x]) (rest := []) X K O (m_chr1 hi hx1 hx2) ES_b (ES_h hE) (lw_S q530 q531 q127 q532) 2 rfl hl.1 (Nat.le_of_ble_eq_true rfl) hdS_J7_charAt ⟨by decide, by decide⟩ ⟨Nat.le_refl _, Nat.le_refl _⟩ dJ6_charAt_12) (fun r u H locs hp O _ => ?_)
  subst hp
  exact x_nret X O rfl (pk_nc _) () rfl rfl dJ6_charAt_15
theorem lenT_le : ∀ i : Nat, i < 22 → lenT.getD i 0 < 100 := by decide
theorem slen_lt {i : Nat} {x : Int32} (hi : i < 22) (h : okI x (lenT.getD i 0) = true) : x < slen i := by
  have hb := lenT_le i hi
  obtain ⟨j, hj, rfl⟩ := vp_in_of (okI_in h) (by omega)
  exact nI_lt hj (by omega)
