/-! makers of lists -/
theorem hdS_J0_init : (yJ0_init.cls ≠ "java/lang/invoke/MethodHandle" ∧ yJ0_init.cls ≠ "java/lang/invoke/VarHandle" ∧ (parseMethodDescriptor yJ0_init.desc).map (fun d => d.parameters.length) = some 0) := by decide +kernel
theorem hdS_J1_init : (yJ1_init.cls ≠ "java/lang/invoke/MethodHandle" ∧ yJ1_init.cls ≠ "java/lang/invoke/VarHandle" ∧ (parseMethodDescriptor yJ1_init.desc).map (fun d => d.parameters.length) = some 0) := by decide +kernel
theorem hdS_J2_init : (yJ2_init.cls ≠ "java/lang/invoke/MethodHandle" ∧ yJ2_init.cls ≠ "java/lang/invoke/VarHandle" ∧ (parseMethodDescriptor yJ2_init.desc).map (fun d => d.parameters.length) = some 0) := by decide +kernel
theorem m_J0_init {l : Launch} {D : va_G} {d : Nat → ClassId} {h : IX} {ct : CT} {q : Nat} : XM l D d EN yJ0_init cJ0_init 1 none 1 0 0 [.ref q] h ct (Qv D (fun _ : Unit => True) (fun _ => (h, ct))) := by
  refine XM.of (by decide +kernel) (Nat.le_of_ble_eq_true rfl) ?_
  intro p e s m below meth c A ls X hnm K _ O hl
  have hl : lv_has ls 1 [(0, .ref q)] := hl
  have hx := X.1.1; have hb := X.1.2.1
  refine lv_aload_n hx hb dJ0_init_0 rfl (lv_at hl 0 rfl) ?_
  refine W.objInit hx hb X.1.2.2.2.1 (X.1.2.2.2.2 _ q159) (X.1.2.2.2.2 _ q146) (X.1.2.2.2.2 _ q147) rfl (hl.1.trans X.1.2.2.1.symm) rfl dJ0_init_1 (Nat.le_of_ble_eq_true rfl) (Nat.le_of_ble_eq_true rfl) ?_
  exact x_vret X O rfl () trivial rfl dJ0_init_4
theorem m_J1_init {l : Launch} {D : va_G} {d : Nat → ClassId} {h : IX} {ct : CT} {q : Nat} {fs : List Value} (he : ct 20 q 0 = some (.inr (13, fs))) (hfl : fs.length = 3) : XM l D d EN yJ1_init cJ1_init 1 none 2 0 0 [.ref (h 20 q 0)] h ct (Qv D (fun _ : Unit => True) (fun _ => (h, up3 ct 20 q 0 (.inr (13, fs.set 0 (.int 0)))))) := by
  refine XM.of (by decide +kernel) (Nat.le_of_ble_eq_true rfl) ?_
  intro p e s m below meth c A ls X hnm K _ O hl
  have hl : lv_has ls 1 [(0, .ref (h 20 q 0))] := hl
  have hx := X.1.1; have hb := X.1.2.1
  refine lv_aload_n hx hb dJ1_init_0 rfl (lv_at hl 0 rfl) ?_
  refine x_callv (x_runI (ret' := none) (As := []) (rest := []) (bb := h 20 q 0) X K O m_J0_init EN_b EN_h q156 q157 q112 q158 rfl 0 rfl hl.1 (Nat.le_of_ble_eq_true rfl) hdS_J0_init ⟨by decide, by decide⟩ ⟨Nat.le_refl _, Nat.le_refl _⟩ dJ1_init_1) (fun _ H locs _ O _ => ?_)
  refine lv_aload_n hx hb dJ1_init_4 rfl (lv_at hl 0 rfl) ?_
  refine lv_iconst (v := 0) hx hb dJ1_init_5 (by decide) ?_
  refine x_put (host := "") (ty := .int) X K O 0 he rfl in_J2 tyJ2_ok nmJ2 (by decide) q164 rfl rfl rfl rfl (by rw [hfl]; decide) dJ1_init_6 (fun H locs O => ?_)
  exact x_vret X O rfl () trivial rfl dJ1_init_9
theorem m_J2_init {l : Launch} {D : va_G} {d : Nat → ClassId} {adK adV : Nat → Nat} {e0 : Nat} {h : IX} {ct : CT} {q : Nat} {fs : List Value} (he : ct 20 q 0 = some (.inr (13, fs))) (hfl : fs.length = 3) : XM l D d (ES adK adV e0) yJ2_init cJ2_init 1 none 3 0 0 [.ref (h 20 q 0)] h ct (Qv D (fun _ : Unit => True) (fun _ => (h, up3 ct 20 q 0 (.inr (13, (fs.set 0 (.int 0)).set 1 (.ref e0)))))) := by
  refine XM.of (by decide +kernel) (Nat.le_of_ble_eq_true rfl) ?_
  intro p e s m below meth c A ls X hnm K hE O hl
  have hl : lv_has ls 1 [(0, .ref (h 20 q 0))] := hl
  have hx := X.1.1; have hb := X.1.2.1
  refine lv_aload_n hx hb dJ2_init_0 rfl (lv_at hl 0 rfl) ?_
  refine x_callv (x_runI (ret' := none) (As := []) (rest := []) (bb := h 20 q 0) X K O (m_J1_init he hfl) EN_b EN_h q153 q154 q113 q155 rfl 0 rfl hl.1 (Nat.le_of_ble_eq_true rfl) hdS_J1_init ⟨by decide, by decide⟩ ⟨Nat.le_refl _, Nat.le_refl _⟩ dJ2_init_1) (fun _ H locs _ O _ => ?_)
  have O : XH D A s.heap h (up3 ct 20 q 0 (.inr (13, fs.set 0 (.int 0)))) H locs := O
  refine lv_aload_n hx hb dJ2_init_4 rfl (lv_at hl 0 rfl) ?_
  have hS : va_S A s.heap H locs := by
    obtain ⟨ws, ix, hP, hD, hS, r⟩ := O
    exact hS
  refine va_gets hx hb hE.2.2.2.2.2.2.1 hS X.1.2.2.2.1 (X.1.2.2.2.2 _ q160) (fun _ h => h) dJ2_init_5 ?_
  refine x_put (host := "") (ty := .array (.object "java/lang/Object")) X K O 1 up3_self rfl in_J2 tyJ2_ok nmJ2 (by decide) q162 rfl rfl rfl rfl (by rw [List.length_set, hfl]; decide) dJ2_init_8 (fun H locs O => ?_)
  rw [up3_up3] at O
  exact x_vret X O rfl () trivial rfl dJ2_init_11
def nl (u : PS) (e0 : Nat) : PS := pss (al u 20 0) (sR (al u 20 0).2.2 20 u.2.1 0 1 e0)
def nlx {α : Type} (u : PS) (e0 : Nat) (f : PS → Option (RX α)) : Option (RX α) := ckm (nl u e0) (f (nl u e0))
theorem nlx_s {α : Type} {u : PS} {e0 : Nat} {f : PS → Option (RX α)} {z : RX α} (h : nlx u e0 f = some z) : u.2.1 + 1 ≤ rN z ∧ ∃ u1, u1 = nl u e0 ∧ f u1 = some z := by
  obtain ⟨h1, h2⟩ := ckm_s h
  exact ⟨h1, _, rfl, h2⟩
theorem y_newlist {p : Program} {l : Launch} {e : Env} {s : State} {m : MethodId} {args : Array Value} {below : List Frame} {meth : Method} {c : Code} {H : Heap} {locs : List Loc} {cells slots : Nat} {Q : State → Prop} {cc : ByteArray} {nL : Nat} {ret : Option FieldType} {own : String} {pc : Nat} {ls : Array Slot} {rest : List Value} {D : va_G} {A : Nat → Prop} {hs : IX} {d : Nat → ClassId} {u : PS} {adK adV : Nat → Nat} {e0 mc0 ms0 dd i0 i4 : Nat} (X : FX p m c meth s args own cc nL ret) (K : XK D d A s) (hE : ES adK adV e0 A s) (O : YH D A s.heap hs d u H locs) {n : Nat} (hb : CB s u n cells slots) (hm : u.2.1 + 1 ≤ n) (hc1 : cells + 1 ≤ mc0) (hs3 : slots + 3 ≤ ms0) (hsz : ls.size = nL) (hW : ((Value.ref u.2.1 :: rest).map fun v => v.category).sum ≤ 8) (hdd : 3 < dd) (hcl : Cond.classLink own i0 RJ2 ∈ lw_all) (hlk : Cond.methodLink own i4 yJ2_init ∈ lw_all) (d0 : decode cc pc = .ok (.new i0, 3)) (d3 : decode cc (pc + 3) = .ok (.dup, 1)) (d4 : decode cc (pc + 4) = .ok (.invokespecial i4, 3))
    (kk : ∀ (H1 : Heap) (locs1 : List Loc), YH D A s.heap hs d (nl u e0) H1 locs1 → W p l e (rmD dd mc0 ms0) s m args below meth c H1 locs1 (cells + 1) (slots + 3) Q (F0 m (pc + 7) ls (.ref u.2.1 :: rest))) : W p l e (rmD dd mc0 ms0) s m args below meth c H locs cells slots Q (F0 m pc ls rest) := by
  have hb9 := hb.al (t := 20) (x := 0) (N := 3) hm (by decide)
  obtain ⟨⟨ws, ix, hP, hD, hS, r⟩, hzs⟩ := O
  have hx := X.1.1
  have hb := X.1.2.1
  have hKn := K.1.1 13 _ rfl
  have ht : 20 ≤ 20 := by decide
  have hfresh : u.1 20 u.2.1 = none := by
    cases hh : u.1 20 u.2.1 with
    | none => rfl
    | some x0 =>
      have hok : okC u.1 20 u.2.1 0 = true := by rw [okC_hi ht, hh]; rfl
      have h1 := (hP _ _ (r.1 20 u.2.1 0 _ (xct_some hok))).lt
      have h2 : hC hs 20 u.2.1 0 < H.size := h1
      rw [hC_id ht] at h2
      omega
  have hnone : ctY hs d u 20 u.2.1 0 = none := by
    show xct (LC u.1) (okC u.1) (hC hs) d u.2.2 20 u.2.1 0 = none
    unfold xct
    rw [okC_hi ht, hfresh]; rfl
  refine W.newcK hx hb X.1.2.2.2.1 (X.1.2.2.2.2 _ hcl) (X.1.2.2.2.2 _ q149) (X.1.2.2.2.2 _ q114) rfl d0 hc1 hs3 hKn.2.1 rfl fun H1 kC hkC e1 z1 o1 => ?_
  have hkp : ∀ (k : Nat) (x : Nat × va_E), ws[k]? = some x → H1[x.1]? = H[x.1]? := fun k x hx => o1 x.1 ((hP k x hx).lt)
  have hq : hC hs 20 u.2.1 0 = H.size := by rw [hC_id ht, hzs]
  obtain ⟨ix', r'⟩ := r.push (e := .inr (13, [.int 0, .null, .int 0])) hnone hq
  have O1 : XH D A s.heap (hC hs) (up3 (ctY hs d u) 20 u.2.1 0 (.inr (13, [.int 0, .null, .int 0]))) H1 locs := by
    refine ⟨ws ++ [(H.size, .inr (13, [.int 0, .null, .int 0]))], ix', (hP.kept hkp).app (fun k x hx => ?_), hD.push hP rfl (K.2.2 _ hS.1), ⟨Nat.le_trans hS.1 (by omega), fun x h1 h2 => (o1 x (Nat.lt_of_lt_of_le h1 hS.1)).trans (hS.2.1 x h1 h2), hS.2.2⟩, r'⟩
    have hz9 : k < 1 := (List.getElem?_eq_some_iff.mp hx).1
    rw [show k = 0 by omega] at hx
    cases hx
    exact ⟨_, rfl, (u_born tyJ2 X.1.2.2.2.2 in_J2 hKn hkC e1 tyJ2_ok).to (by
      have h8 : ∀ j, j < 3 → defaultValue (tyJ2 j) = vp_V [.int 0, .null, .int 0] j := by decide
      exact h8)⟩
  have hn1 : H.size = u.2.1 := hzs
  rw [hn1]
  refine lv_dup hx hb d3 rfl ?_
  refine x_callv (x_runI (ret' := none) (As := []) (rest := .ref u.2.1 :: rest) (bb := hC hs 20 u.2.1 0) X K O1 (m_J2_init (adK := adK) (adV := adV) (e0 := e0) up3_self rfl) ES_b (ES_h hE) hlk q151 q114 q152 rfl 0 rfl hsz hW hdS_J2_init ⟨hdd, by decide⟩ ⟨hc1, hs3⟩ d4) (fun _ H2 locs2 _ O2 hle => ?_)
  refine W.sz (fun hz => ?_)
  have e9 : up3 (up3 (ctY hs d u) 20 u.2.1 0 (.inr (13, [.int 0, .null, .int 0]))) 20 u.2.1 0 (.inr (13, [.int 0, .ref e0, .int 0])) = ctY hs d (nl u e0) := by
    rw [up3_up3]
    have g1 := xct_al (h := hC hs) (d := d) (u := u) (x := 0) ht hfresh
    have hok : okC (al u 20 0).1 20 u.2.1 0 = true := ok_new ht
    have g2 := xw_putR (L := LC (al u 20 0).1) (h := hC hs) (d := d) (σ := (al u 20 0).2.2) (k := 1) e0 hok LC_20 rfl
    show _ = xct (LC (al u 20 0).1) (okC (al u 20 0).1) (hC hs) d (sR (al u 20 0).2.2 20 u.2.1 0 1 e0)
    rw [← g2, g1, up3_up3]
    have g3 : (xfs (hC hs) (al u 20 0).2.2 20 u.2.1 0 0 sp20).set 1 (.ref (hC hs 21 e0 0)) = [.int 0, .ref e0, .int 0] := by
      show [Value.int (gI (clr u.2.2 20 u.2.1) 20 u.2.1 0 0), Value.ref (hC hs 21 e0 0), Value.int (gI (clr u.2.2 20 u.2.1) 20 u.2.1 0 2)] = _
      rw [gI_clrS, gI_clrS, hC_id (by decide)]
    rw [g3]
  have O3 : XH D A s.heap (hC hs) (ctY hs d (nl u e0)) H2 locs2 := by
    rw [← e9]
    exact O2
  refine kk H2 locs2 ⟨O3, ?_⟩
  obtain ⟨b1, b2, b3, b4⟩ := hb9
  have b3 : cells + 1 + s.heap.size ≤ u.2.1 + 1 := b3
  show H2.size = u.2.1 + 1
  omega
