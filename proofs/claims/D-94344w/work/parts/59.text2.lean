/-! text: its contract -/
def hhT : List (Nat × Nat × Nat × Nat) := [(10, 21, 72, 105), (28, 65, 72, 105), (10, 21, 98, 0), (28, 65, 98, 0), (72, 91, 98, 0), (98, 100, 98, 0)]
def QT (D : va_G) (hs : IX) (d : Nat → ClassId) (z : RX Int32) : (Nat → Prop) → Array Value → State → Outcome → State → Prop := Qi D (fun (r : Int32) (w : PS) => z = .inl (w, r)) (fun w => (hC hs, ctY hs d w))
def TM (l : Launch) (D : va_G) (d : Nat → ClassId) (E : XE) (dd : Nat) (av : List Value) (hs : IX) (u : PS) (z : RX Int32) : Prop :=
  ∀ (ws : va_W), vx_Met l yX0_text (Cond.codeWith yX0_text cX0_text 5 (some .int) hhT :: lw_all) (rmD dd (rN z - u.2.1) (22 * (rN z - u.2.1))) (va_Pc av (XPre D d (hC hs) (ctY hs d u) E ws u.2.1)) (QT D hs d z (va_A ws u.2.1)) (fun _ _ _ => False) (rN z - u.2.1) (22 * (rN z - u.2.1)) (va_A ws u.2.1)
theorem TM.of {l : Launch} {D : va_G} {d : Nat → ClassId} {E : XE} {dd : Nat} {av : List Value} {hs : IX} {u : PS} {z : RX Int32} (hm : u.2.1 ≤ rN z) (hn : (lg_sl av).length ≤ 5)
    (body : ∀ (p : Program) (e : Env) (s : State) (m : MethodId) (below : List Frame) (meth : Method) (c : Code) (A : Nat → Prop) (ls : Array Slot), FX p m c meth s av.toArray RX0 cX0_text 5 (some .int) → c.exceptionTable.toList = tableOf hhT → XK D d A s → E A s → YH D A s.heap hs d u s.heap [] → CB s u (rN z) 0 0 → lv_has ls 5 (lv_args 0 av) → W p l e (rmD dd (rN z - s.heap.size) (22 * (rN z - s.heap.size))) s m av.toArray below meth c s.heap [] 0 0 (vx_MQ below (QT D hs d z A) (fun _ _ _ => False) av.toArray s (rN z - s.heap.size) (22 * (rN z - s.heap.size)) A) (F0 m 0 ls [])) : TM l D d E dd av hs u z := by
  intro ws
  refine vx_ofWH (cc := cX0_text) (maxL := 5) (ret := some .int) (by decide +kernel) rfl ?_
  intro p e s m args below meth c s₁ B hml hv
  have hpre := atoms_spec (ws := Cond.codeWith yX0_text cX0_text 5 (some .int) hhT :: lw_all) B.pre
  have hta := vx_table (x := yX0_text) B (hpre _ List.mem_cons_self)
  obtain ⟨rfl, hsz, hP, hD, ⟨ix, r⟩, hK, hNW, hE⟩ := hv
  have hts : ∀ w ∈ lw_all, w.before _ s = true := fun w h => hpre w (List.mem_cons_of_mem _ h)
  have hown : s.vm.findClass RX0 = some m.cls := findClass_of_methodNamed B.named
  have hl := lv_entry av (n := 5) hn
  rw [lg_entry_eq]
  have h9 := body p e s m below meth c (va_A ws s.heap.size) _ ⟨⟨B.exec, B.bytes, hml, hown, hts⟩, B.returns, B.notSynchronized⟩ hta ⟨hK, hNW, fun q hq => Or.inr hq⟩ (by rw [hsz]; exact hE) ⟨⟨ws, ix, hP, hD.self, va_S.rf, r⟩, hsz⟩ ⟨Nat.le_of_eq hsz, hm, by omega, by omega⟩ hl
  rw [hsz] at h9
  exact h9
def C_X0_text (e0 F : Nat) (u : PS) (k : Int32) : Option (RX Int32) :=
  ckm u (lt1 (pss u (sI u.2.2 0 0 0 4 0)) (fun u1 => lt1 (pss u1 (sI u1.2.2 0 0 0 5 (-1))) (fun u2 =>
    bn2 (C_X0_isIn u2.1 u2.2.2 k 0 5) (fun σ r => lt1 (pss u2 σ) (fun u3 =>
      if r = 0 then lt1 (pss u3 (sI u3.2.2 0 0 0 1 0)) (fun u4 => some (.inl (u4, -1)))
      else nrx u3 (if 2 ≤ k then 0 else 1) (fun u4 =>
        bnt u4 (C_X7_read e0 F u3.2.1 u4)
          (fun u5 q => ck (okC u5.1 20 (gR u5.2.2 0 0 0 2) 0) (bnt u5 (C_J2_set e0 (gR u5.2.2 0 0 0 2) q u5 k) (fun u6 _ => ck (okC u6.1 20 q 0) (bn2 (C_J2_size u6.1 q u6.2.2) (fun σ9 n9 => lt1 (pss u6 σ9) (fun u7 => lt1 (pss u7 (sI u7.2.2 0 0 0 1 0)) (fun u8 => some (.inl (u8, n9))))))) (fun _ _ _ => none)))
          (fun u5 kd pl => lt1 (pss u5 (sI u5.2.2 0 0 0 4 kd)) (fun u6 => lt1 (pss u6 (sI u6.2.2 0 0 0 5 pl)) (fun u7 => lt1 (pss u7 (sI u7.2.2 0 0 0 1 0)) (fun u8 => some (.inl (u8, -1)))))))))))) 
section ZX
variable {p : Program} {l : Launch} {e : Env} {R : Room} {s : State} {m : MethodId} {args : Array Value} {below : List Frame} {meth : Method} {c : Code} {H : Heap} {locs : List Loc} {cells slots : Nat} {D : va_G} {A : Nat → Prop} {hs : IX} {d : Nat → ClassId} {u : PS} {pc : Nat} {ls : Array Slot}
theorem t_iret (X : FX p m c meth s args RX0 cX0_text 5 (some .int)) {z : RX Int32} {v : Int32} (O : XH D A s.heap (hC hs) (ctY hs d u) H locs) {mc0 ms0 : Nat} (h1 : cells ≤ mc0) (h2 : slots ≤ ms0) (hz : z = .inl (u, v)) (hdg : decode cX0_text pc = .ok (.ireturn, 1)) : W p l e R s m args below meth c H locs cells slots (vx_MQ below (QT D hs d z A) (fun _ _ _ => False) args s mc0 ms0 A) (F0 m pc ls [.int v]) :=
  vx_ret (W.up h1 h2 (x_iret X O rfl u hz rfl hdg))
end ZX
theorem m_C_X0_text {l : Launch} {D : va_G} {d : Nat → ClassId} {hs : IX} {adK adV : Nat → Nat} {e0 F : Nat} {u : PS} {z : RX Int32} {k : Int32} (htr0 : l.stackTraces = false) (hf : C_X0_text e0 F u k = some z) : TM l D d (ES adK adV e0) (15 + 3 * F) [.ref (hC hs 0 0 0), .int k] hs u z := by
  rw [C_X0_text] at hf
  obtain ⟨hm, hf⟩ := ckm_s hf
  refine TM.of hm (Nat.le_of_ble_eq_true rfl) ?_
  intro p e s m below meth c A ls X hta K hE O hb hl
  have hl : lv_has ls 5 [(0, .ref (hC hs 0 0 0)), (1, .int k)] := hl
  have hx := X.1.1; have hy := X.1.2.1
  refine lv_aload_n hx hy dX0_text_0 rfl (lv_at hl 0 rfl) ?_
  refine lv_iconst (v := 0) hx hy dX0_text_1 (by decide) ?_
  obtain ⟨u1, eu1, hf⟩ := lt1_s hf
  refine x_pI (ok := okC u.1) X K O.1.self 4 rfl LC_0 rfl rfl in_X0 tyX0_ok nmX0 (by decide) q377 rfl rfl rfl dX0_text_2 (fun H9 locs9 O9 => ?_)
  refine W.sz (fun hz => ?_)
  have O := O.put O9 hb hz
  rw [← eu1] at O
  have hb := hb.mv eu1
  refine lv_aload_n hx hy dX0_text_5 rfl (lv_at hl 0 rfl) ?_
  refine lv_iconst (v := -1) hx hy dX0_text_6 (by decide) ?_
  obtain ⟨u2, eu2, hf⟩ := lt1_s hf
  refine x_pI (ok := okC u1.1) X K O.1.self 5 rfl LC_0 rfl rfl in_X0 tyX0_ok nmX0 (by decide) q378 rfl rfl rfl dX0_text_7 (fun H9 locs9 O9 => ?_)
  refine W.sz (fun hz => ?_)
  have O := O.put O9 hb hz
  rw [← eu2] at O
  have hb := hb.mv eu2
  refine lv_iload_n hx hy dX0_text_10 rfl (lv_at hl 1 rfl) ?_
  refine lv_iconst (v := 0) hx hy dX0_text_11 (by decide) ?_
  refine lv_iconst (v := 5) hx hy dX0_text_12 (by decide) ?_
  obtain ⟨σ, r, hg, hf⟩ := bn2_s hf
  obtain ⟨u3, eu3, hf⟩ := lt1_s hf
  refine x_calli (x_runS (As := [.int k, .int 0, .int 5]) (rest := []) X K O.1 (m_C_X0_isIn hg) EN_b EN_h (lw_S q444 q445 q111 q446) 3 rfl hl.1 (Nat.le_of_ble_eq_true rfl) hdS_X0_isIn ⟨by omega, by decide⟩ hb.r dX0_text_13) (fun r' _ H9 locs9 hp O9 hle => ?_)
  refine W.sz (fun hz => ?_)
  cases hp
  have O := O.call O9 hle hb hz
  rw [← eu3] at O
  have hb := hb.mv eu3
  refine lv_if_ne (tgt := 28) hx hy dX0_text_16 (by decide) (fun c_1 => ?_) (fun c_1 => ?_)
  · replace hf := if_f c_1 hf
    obtain ⟨hm1, u4, eu4, hf⟩ := nrx_s hf
    refine y_newct (ci := 7) X K O 24 (by decide) rfl in_X7 tyX7_ok q452 q453 q125 (fs := [.int 0, .int 0, .int 0, .int 0, .int 0, .int 0, .null]) (by decide) (hb.c1 hm1) (hb.s1 (N := 7) hm1 (by decide)) dX0_text_28 (fun H1 hfr O1 hz1 => ?_)
    refine lv_dup hx hy dX0_text_31 rfl ?_
    refine lv_aload_n hx hy dX0_text_32 rfl (lv_at hl 0 rfl) ?_
    refine lv_iload_n hx hy dX0_text_33 rfl (lv_at hl 1 rfl) ?_
    refine lv_iconst (v := 2) hx hy dX0_text_34 (by decide) ?_
    have key : ∀ b : Int32, (if 2 ≤ k then (0 : Int32) else 1) = b → narrow .boolean (.int b) = .int b → fits .boolean (.int b) = true → W p l e (rmD (15 + 3 * F) (rN z - s.heap.size) (22 * (rN z - s.heap.size))) s m [Value.ref (hC hs 0 0 0), .int k].toArray below meth c H1 locs9 (0 + 0 + 1) (0 + 0 + 7) (vx_MQ below (QT D hs d z A) (fun _ _ _ => False) [Value.ref (hC hs 0 0 0), .int k].toArray s (rN z - s.heap.size) (22 * (rN z - s.heap.size)) A) (F0 m 43 ls [.int b, .ref (hC hs 0 0 0), .ref u3.2.1, .ref u3.2.1]) := by
      intro b hbe hn hft
      rw [hbe] at eu4
      refine x_callv (x_runI (ret' := none) (As := [.ref (hC hs 0 0 0), .int b]) (rest := [.ref u3.2.1]) (bb := hC hs 24 u3.2.1 0) X K O1 (m_X7_init hn hft up3_self rfl) EN_b EN_h q454 q455 q125 q456 rfl 2 rfl hl.1 (Nat.le_of_ble_eq_true rfl) hdS_X7_init ⟨by omega, by decide⟩ ⟨hb.c1 hm1, hb.s1 (N := 7) hm1 (by decide)⟩ dX0_text_43) (fun _ H2 locs2 _ O2 hle2 => ?_)
      refine W.sz (fun hz => ?_)
      have O2 : XH D A s.heap (hC hs) (up3 (up3 (ctY hs d u3) 24 u3.2.1 0 (.inr (7, [.int 0, .int 0, .int 0, .int 0, .int 0, .int 0, .null]))) 24 u3.2.1 0 (.inr (7, [.int b, .int 0, .int 0, .int 0, .int 0, .int 0, .ref (hC hs 0 0 0)]))) H2 locs2 := O2
      rw [up3_up3, nr_ct hfr, ← eu4] at O2
      have hb := (hb.al (t := 24) (x := 0) (N := 7) hm1 (by decide)).mv (σ := sI (al u3 24 0).2.2 24 u3.2.1 0 0 b) (u1 := u4) (by rw [eu4]; rfl)
      have hn4 : u4.2.1 = u3.2.1 + 1 := by rw [eu4]; rfl
      have O : YH D A s.heap hs d u4 H2 locs2 := ⟨O2, by
        obtain ⟨b1, b2, b3, b4⟩ := hb
        omega⟩
      have hk : okC u4.1 24 u3.2.1 0 = true := by rw [eu4]; exact ok_new (by decide)
      obtain ⟨zz, hg, hm2, hL, hR⟩ := bnt_s hf
      refine x_top (w := .ref (hC hs 24 u3.2.1 0)) rfl ?_
      refine y_callG (u := u4) (z' := zz) (y_runV (As := []) (rest := []) X K O (xct_obj hk LC_24) rfl (m_C_X7_read htr0 hk hg) ES_b (ES_h hE) (lw_V q480 q481 q482 q125 q483) 0 rfl hl.1 (Nat.le_of_ble_eq_true rfl) hdV_X7_read ⟨by omega, by decide⟩ (hb.cr hm2) dX0_text_46) (fun q u5 H5 locs5 hz5 O5 => ?_) (fun q u5 kd pl fs H5 locs5 ce hz5 f1 f2 f3 O5 g1 g2 g3 => ?_)
      · replace hf := hL _ _ hz5
        have hb := hb.cl (u1 := u5) hm2 (by rw [hz5]; rfl)
        obtain ⟨k1, hf⟩ := ck_s hf
        obtain ⟨z2, hg2, hm3, hL2, hR2⟩ := bnt_s hf
        refine lv_astore_n (lv' := [(2, .ref q), (0, .ref (hC hs 0 0 0)), (1, .int k)]) hx hy dX0_text_49 rfl hl (by decide) rfl (fun ls hl => ?_)
        refine lv_aload_n hx hy dX0_text_50 rfl (lv_at hl 1 rfl) ?_
        refine x_gR (ok := okC u5.1) X K O5.1 2 rfl LC_0 rfl rfl in_X0 (by decide) q374 dX0_text_51 ?_
        refine lv_iload_n hx hy dX0_text_54 rfl (lv_at hl 2 rfl) ?_
        refine lv_aload_n hx hy dX0_text_55 rfl (lv_at hl 0 rfl) ?_
        refine y_callG (u := u5) (z' := z2) (y_runV (As := [.int k, .ref q]) (rest := []) X K O5 (xct_obj k1 LC_20) rfl (m_C_J2_set htr0 k1 hg2) ES_b (ES_h hE) (lw_V q762 q763 q764 q114 q765) 2 rfl hl.1 (Nat.le_of_ble_eq_true rfl) hdV_J2_set ⟨by omega, by decide⟩ (hb.cr hm3) dX0_text_56) (fun q2 u6 H6 locs6 hz6 O6 => ?_) (fun q2 u6 kd pl fs H6 locs6 ce hz6 _ _ _ _ _ _ _ => by exact absurd (hR2 _ _ _ hz6) (fun q => by cases q))
        replace hf := hL2 _ _ hz6
        have hb := hb.cl (u1 := u6) hm3 (by rw [hz6]; rfl)
        obtain ⟨k2, hf⟩ := ck_s hf
        obtain ⟨σ9, n9, hg9, hf⟩ := bn2_s hf
        obtain ⟨u7, eu7, hf⟩ := lt1_s hf
        refine lv_pop hx hy dX0_text_59 rfl ?_
        refine lv_aload_n hx hy dX0_text_60 rfl (lv_at hl 0 rfl) ?_
        refine x_top (w := .ref (hC hs 20 q 0)) rfl ?_
        refine x_calli (x_runV (As := []) (rest := []) X K O6.1 (xct_obj k2 LC_20) rfl (m_C_J2_size k2 hg9) EN_b EN_h (lw_V q774 q658 q659 q114 q660) 0 rfl hl.1 (Nat.le_of_ble_eq_true rfl) hdV_J2_size ⟨by omega, by decide⟩ hb.r dX0_text_61) (fun r' _ H9 locs9 hp O9 hle => ?_)
        refine W.sz (fun hz => ?_)
        cases hp
        have O := O6.call O9 hle hb hz
        rw [← eu7] at O
        have hb := hb.mv eu7
        refine lv_istore_n (lv' := [(3, .int n9), (2, .ref q), (0, .ref (hC hs 0 0 0)), (1, .int k)]) hx hy dX0_text_64 rfl hl (by decide) rfl (fun ls hl => ?_)
        refine lv_aload_n hx hy dX0_text_65 rfl (lv_at hl 2 rfl) ?_
        refine lv_iconst (v := 0) hx hy dX0_text_66 (by decide) ?_
        obtain ⟨u8, eu8, hf⟩ := lt1_s hf
        refine x_pI (ok := okC u7.1) X K O.1.self 1 rfl LC_0 rfl rfl in_X0 tyX0_ok nmX0 (by decide) q373 rfl rfl rfl dX0_text_67 (fun H9 locs9 O9 => ?_)
        refine W.sz (fun hz => ?_)
        have O := O.put O9 hb hz
        rw [← eu8] at O
        have hb := hb.mv eu8
        refine lv_iload_n hx hy dX0_text_70 rfl (lv_at hl 0 rfl) ?_
        exact t_iret X O.1 hb.r.1 hb.r.2 (Option.some.inj hf).symm dX0_text_71
      · replace hf := hR _ _ _ hz5
        have hb := hb.cl (u1 := u5) hm2 (by rw [hz5]; rfl)
        refine vx_catch (name := "NotchSticks$Fault") X.1.2.2.2.1 [⟨10, 21, 72, 105⟩] ⟨28, 65, 72, 105⟩ (tableOf [(10, 21, 98, 0), (28, 65, 98, 0), (72, 91, 98, 0), (98, 100, 98, 0)]) (by rw [hta]; rfl) (fun y hy9 => ?_) (by decide) (by decide) (X.1.2.2.2.2 _ q451) (va_Nw.use rfl (K.2.1.2.2.2.1 _ _ q595)) g1 g2 g3 ?_
        · left
          cases List.mem_singleton.mp hy9
          decide
        refine lv_astore_n (lv' := [(2, .ref q), (0, .ref (hC hs 0 0 0)), (1, .int k)]) hx hy dX0_text_72 rfl hl (by decide) rfl (fun ls hl => ?_)
        refine lv_aload_n hx hy dX0_text_73 rfl (lv_at hl 1 rfl) ?_
        refine lv_aload_n hx hy dX0_text_74 rfl (lv_at hl 0 rfl) ?_
        refine x_top (w := .ref (hC hs 25 q 0)) rfl ?_
        refine x_getN (v := .int kd) X K O5 6 up3_self rfl in_X8 (by decide) q638 f1 dX0_text_75 ?_
        obtain ⟨u6, eu6, hf⟩ := lt1_s hf
        refine z_p0 (k := 4) X K O5 rfl (by decide) q377 rfl rfl dX0_text_78 (fun H6 locs6 O6 => ?_)
        rw [← eu6] at O6
        refine lv_aload_n hx hy dX0_text_81 rfl (lv_at hl 1 rfl) ?_
        refine lv_aload_n hx hy dX0_text_82 rfl (lv_at hl 0 rfl) ?_
        refine x_top (w := .ref (hC hs 25 q 0)) rfl ?_
        refine x_getN (v := .int pl) X K O6 7 up3_self rfl in_X8 (by decide) q640 f2 dX0_text_83 ?_
        obtain ⟨u7, eu7, hf⟩ := lt1_s hf
        refine z_p0 (k := 5) X K O6 rfl (by decide) q378 rfl rfl dX0_text_86 (fun H7 locs7 O7 => ?_)
        rw [← eu7] at O7
        refine lv_iconst (v := -1) hx hy dX0_text_89 (by decide) ?_
        refine lv_istore_n (lv' := [(3, .int (-1)), (2, .ref q), (0, .ref (hC hs 0 0 0)), (1, .int k)]) hx hy dX0_text_90 rfl hl (by decide) rfl (fun ls hl => ?_)
        refine lv_aload_n hx hy dX0_text_91 rfl (lv_at hl 2 rfl) ?_
        refine lv_iconst (v := 0) hx hy dX0_text_92 (by decide) ?_
        obtain ⟨u8, eu8, hf⟩ := lt1_s hf
        refine z_p0 (k := 1) X K O7 rfl (by decide) q373 rfl rfl dX0_text_93 (fun H8 locs8 O8 => ?_)
        rw [← eu8] at O8
        refine lv_iload_n hx hy dX0_text_96 rfl (lv_at hl 0 rfl) ?_
        have f8 : ctY hs d u8 25 q 0 = none := by
          have e1 : u8.1 = u5.1 := by rw [eu8, eu7, eu6]; rfl
          unfold ctY xct at f3 ⊢
          rw [e1]
          by_cases ho : okC u5.1 25 q 0 = true
          · rw [if_pos ho] at f3
            cases f3
          · rw [if_neg ho]
        exact t_iret X (O8.drop f8) hb.r.1 hb.r.2 (Option.some.inj hf).symm dX0_text_97
    refine lv_icmp_ge (tgt := 42) hx hy dX0_text_35 (by decide) (fun c_2 => ?_) (fun c_2 => ?_)
    · refine lv_iconst (v := 0) hx hy dX0_text_42 (by decide) ?_
      exact key 0 (if_pos c_2) rfl rfl
    · refine lv_iconst (v := 1) hx hy dX0_text_38 (by decide) ?_
      refine lv_goto (tgt := 43) hx hy dX0_text_39 (by decide) ?_
      exact key 1 (if_neg c_2) rfl rfl
  · replace hf := if_t c_1 hf
    refine lv_iconst (v := -1) hx hy dX0_text_19 (by decide) ?_
    refine lv_istore_n (lv' := [(2, .int (-1)), (0, .ref (hC hs 0 0 0)), (1, .int k)]) hx hy dX0_text_20 rfl hl (by decide) rfl (fun ls hl => ?_)
    refine lv_aload_n hx hy dX0_text_21 rfl (lv_at hl 1 rfl) ?_
    refine lv_iconst (v := 0) hx hy dX0_text_22 (by decide) ?_
    obtain ⟨u4, eu4, hf⟩ := lt1_s hf
    refine x_pI (ok := okC u3.1) X K O.1.self 1 rfl LC_0 rfl rfl in_X0 tyX0_ok nmX0 (by decide) q373 rfl rfl rfl dX0_text_23 (fun H9 locs9 O9 => ?_)
    refine W.sz (fun hz => ?_)
    have O := O.put O9 hb hz
    rw [← eu4] at O
    have hb := hb.mv eu4
    refine lv_iload_n hx hy dX0_text_26 rfl (lv_at hl 0 rfl) ?_
    exact t_iret X O.1 hb.r.1 hb.r.2 (Option.some.inj hf).symm dX0_text_27
