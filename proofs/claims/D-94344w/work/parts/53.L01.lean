section CW
variable {p : Program} {l : Launch} {e : Env} {s : State} {m : MethodId} {args : Array Value} {below : List Frame} {meth : Method} {c : Code} {D : va_G} {A : Nat → Prop} {hs : IX} {d : Nat → ClassId} {Δ : DT}

def C_J3_newLength_b21 (Δ : DT) (σ : ST) (x0 : Int32) (x1 : Int32) : Option (ST × Int32) :=
  none
theorem w_C_J3_newLength_b21 {Δ : DT} (X : FX p m c meth s args RJ3 cJ3_newLength 4 (some .int)) (K : XK D d A s) {z : ST × Int32} (σ : ST) (x0 : Int32) (x1 : Int32) (ls : Array Slot) (H : Heap) (locs : List Loc) (O : XH D A s.heap (hC hs) (xct (LC Δ) (okC Δ) (hC hs) d σ) H locs) (hl : lv_has ls 4 [(0, .int x0), (1, .int x1)]) (hf : C_J3_newLength_b21 Δ σ x0 x1 = some z) : W p l e (rmD 1 0 0) s m args below meth c H locs 0 0 (MQ below (Qi D (pz z) (cw (hC hs) (LC Δ) (okC Δ) d) A) args s 0 0 A) (F0 m 21 ls []) := by
  have hx := X.1.1; have hb := X.1.2.1
  rw [C_J3_newLength_b21] at hf
  refine lv_iload_n hx hb dJ3_newLength_21 rfl (lv_at hl 0 rfl) ?_
  refine lv_iload_n hx hb dJ3_newLength_22 rfl (lv_at hl 1 rfl) ?_
  exact absurd hf (fun q => by cases q)
def C_J3_newLength (Δ : DT) (σ : ST) (p1 : Int32) (p2 : Int32) (p3 : Int32) : Option (ST × Int32) :=
  lt1 (p1 + (imax p2 p3)) (fun x3_1 => (if x3_1 ≤ 0 then C_J3_newLength_b21 Δ σ p1 p2 else (if 2147483639 < x3_1 then C_J3_newLength_b21 Δ σ p1 p2 else some (σ, x3_1))))
theorem m_C_J3_newLength {l : Launch} {D : va_G} {d : Nat → ClassId} {hs : IX} {Δ : DT} {p1 : Int32} {p2 : Int32} {p3 : Int32} {σ : ST} {z : ST × Int32} (hf : C_J3_newLength Δ σ p1 p2 p3 = some z) : XM l D d EN yJ3_newLength cJ3_newLength 4 (some .int) 1 0 0 [.int p1, .int p2, .int p3] (hC hs) (xct (LC Δ) (okC Δ) (hC hs) d σ) (Qi D (pz z) (cw (hC hs) (LC Δ) (okC Δ) d)) := by
  refine XM.of (by decide +kernel) (Nat.le_of_ble_eq_true rfl) ?_
  intro p e s m below meth c A ls X _ K _ O hl
  have hl : lv_has ls 4 [(0, .int p1), (1, .int p2), (2, .int p3)] := hl
  have hx := X.1.1; have hb := X.1.2.1
  rw [C_J3_newLength] at hf
  refine lv_iload_n hx hb dJ3_newLength_0 rfl (lv_at hl 0 rfl) ?_
  refine lv_iload_n hx hb dJ3_newLength_1 rfl (lv_at hl 1 rfl) ?_
  refine lv_iload_n hx hb dJ3_newLength_2 rfl (lv_at hl 2 rfl) ?_
  refine va_mmax hx hb (X.1.2.2.1.trans hl.1.symm) X.1.2.2.2.1 (X.1.2.2.2.2 _ q194) (X.1.2.2.2.2 _ q195) (X.1.2.2.2.2 _ q116) (X.1.2.2.2.2 _ q196) (by decide) (Nat.le_of_ble_eq_true rfl) (Nat.le_refl _) (Nat.le_refl _) dJ3_newLength_3 ?_
  refine x_top (w := .int (imax p2 p3)) rfl ?_
  refine lv_iadd hx hb dJ3_newLength_6 ?_
  obtain ⟨x3_1, ex3_1, hf⟩ := lt1_s hf
  refine x_top (w := .int x3_1) (by rw [ex3_1]) ?_
  refine lv_istore_n (lv' := [(3, .int x3_1), (0, .int p1), (1, .int p2), (2, .int p3)]) hx hb dJ3_newLength_7 rfl hl (by decide) rfl (fun ls hl => ?_)
  refine lv_iconst (v := 0) hx hb dJ3_newLength_8 (by decide) ?_
  refine lv_iload_n hx hb dJ3_newLength_9 rfl (lv_at hl 0 rfl) ?_
  refine lv_icmp_ge (tgt := 21) hx hb dJ3_newLength_10 (by decide) (fun c_2 => ?_) (fun c_2 => ?_)
  · replace hf := if_t c_2 hf
    exact w_C_J3_newLength_b21 X K _ _ _ ls _ _ O (lv_sub hl [1, 2] rfl) hf
  · replace hf := if_f c_2 hf
    refine lv_iload_n hx hb dJ3_newLength_13 rfl (lv_at hl 0 rfl) ?_
    refine lv_ldc (v := 2147483639) hx hb X.1.2.2.2.1 (X.1.2.2.2.2 _ q197) dJ3_newLength_14 ?_
    refine lv_icmp_gt (tgt := 21) hx hb dJ3_newLength_16 (by decide) (fun c_3 => ?_) (fun c_3 => ?_)
    · replace hf := if_t c_3 hf
      exact w_C_J3_newLength_b21 X K _ _ _ ls _ _ O (lv_sub hl [1, 2] rfl) hf
    · replace hf := if_f c_3 hf
      refine lv_iload_n hx hb dJ3_newLength_19 rfl (lv_at hl 0 rfl) ?_
      exact x_iret X O rfl _ (Option.some.inj hf).symm rfl dJ3_newLength_20
end CW
