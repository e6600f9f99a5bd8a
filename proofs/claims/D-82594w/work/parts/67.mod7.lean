theorem MR.cg {V W : Nat → Nat → Int32} {I J : Nat → Int32} {n : Nat} {R : Nat → RowT} {K : Nat → Nat → Bool} (h : MR V I n R K) (hV : ∀ f, f < 170 → ∀ j, W f j = V f j) (hI : J 161 = I 161) : MR W J n R K := by
  obtain ⟨h1, h2, h3, h4, h5⟩ := h
  refine ⟨hI.trans h1, h2, fun i a b => ?_, fun k i a b => by rw [hV 169 (by omega)]; exact h4 k i a b, h5⟩
  rw [hV 162 (by omega), hV 163 (by omega), hV 164 (by omega), hV 165 (by omega), hV 166 (by omega), hV 167 (by omega)]
  exact h3 i a b
theorem insN_eq (R : Nat → RowT) (j : Nat) (xs : List Nat) : insN R j xs = xs.insertIdx (plc R j xs) j := by
  have hple : plc R j xs ≤ xs.length := tw_le
  have e := ins_app (xs.take (plc R j xs)) (xs.drop (plc R j xs)) j
  rw [List.take_append_drop, List.length_take, Nat.min_eq_left hple] at e
  exact e.symm
/-- the order: L -/
def OV (V : Nat → Nat → Int32) (I : Nat → Int32) (L : List Nat) : Prop := I 179 = nI L.length ∧ ∀ i x, L[i]? = some x → V 180 i = nI x
theorem c_MfindOrder (l : Launch) (Θ : Glob) (M : Mem) (Y : Nat) (ar : Nat → Nat) (V : Nat → Nat → Int32) (I : Nat → Int32) (hV : MV M Y ar V I) (n : Nat) (R : Nat → RowT) (K : Nat → Nat → Bool) (hM : MR V I n R K) (hR : RI R n) (kk : Nat) (hk : kk < 4) : Ct l Θ y_MfindOrder 2 0 0 [.ref Y, .int (nI kk)] M (pV fun N => ∃ V2 I2, MV N Y ar V2 I2 ∧ OV V2 I2 (lkL R (K kk) n) ∧ (∀ f, f ≠ 180 → ∀ j, V2 f j = V f j) ∧ (∀ f, f ≠ 179 → I2 f = I f) ∧ Fr (MZ M) M N) := by
  have hn3 := hR.1
  refine Ct.start (cc := b_MfindOrder) (nL := 4) (ret := none) [some (.ref Y), some (.int (nI kk)), none, none] mi_MfindOrder.1 (by decide +kernel) (by intro v hv; simp at hv; rcases hv with rfl | rfl <;> rfl) (by simp) rfl (fun p e s m args below meth c hC => ?_)
  have loop : ∀ (r i : Nat) (M1 : Mem) (V1 : Nat → Nat → Int32) (I1 : Nat → Int32) (a3 : Option Value), i + r = n → MV M1 Y ar V1 I1 → OV V1 I1 (lkL R (K kk) i) → (∀ f, f ≠ 180 → ∀ j, V1 f j = V f j) → (∀ f, f ≠ 179 → I1 f = I f) → Fr (MZ M) M M1 → Gj p l e (rmo 2 0 0) s m args below meth c Θ M1 [some (.ref Y), some (.int (nI kk)), some (.int (nI (i + 1))), a3] 0 0 (Fn below args s Θ 0 0 (pV fun N => ∃ V2 I2, MV N Y ar V2 I2 ∧ OV V2 I2 (lkL R (K kk) n) ∧ (∀ f, f ≠ 180 → ∀ j, V2 f j = V f j) ∧ (∀ f, f ≠ 179 → I2 f = I f) ∧ Fr (MZ M) M N)) 7 [] := by
    intro r
    induction r with
    | zero =>
      intro i M1 V1 I1 a3 hi hV1 hO hof hoi hF
      have hi : i = n := hi
      subst hi
      have hi1 : I1 161 = nI i := (hoi 161 (by omega)).trans hM.1
      refine r_iload_n hC 2 d_MfindOrder_7 rfl rfl ?_
      refine r_aload_n hC 0 d_MfindOrder_8 rfl rfl ?_
      refine r_getI hC 5 1 161 fl_M81 (by exact hV1.k) d_MfindOrder_9 rfl rfl (by exact (hV1.fi 161 (by decide))) ?_
      rw [hi1]
      refine r_icmp_gt hC 95 d_MfindOrder_12 (by decide) (fun _ => ?_) (fun z => absurd (nI_lt (by omega) (by omega)) z)
      exact r_vret hC d_MfindOrder_95 (Nat.le_refl _) (Nat.le_refl _) ⟨rfl, V1, I1, hV1, hO, hof, hoi, hF⟩
    | succ r ih =>
      intro i M1 V1 I1 a3 hi hV1 hO hof hoi hF
      have hM1 : MR V1 I1 n R K := hM.cg (fun f hf j => hof f (by omega) j) (hoi 161 (by omega))
      have hi1 : I1 161 = nI n := hM1.1
      have hxs := lkL_len R (K kk) i
      have hsrt := lkL_srt hR (K kk) i (by omega)
      have hkey := lkL_key hR (K kk) (i := i) (by omega)
      have hmem := lkL_mem R (K kk) i
      have hstep : lkL R (K kk) (i + 1) = if K kk (i + 1) = true then insN R (i + 1) (lkL R (K kk) i) else lkL R (K kk) i := rfl
      have ih2 := ih (i + 1)
      rw [hstep] at ih2
      generalize lkL R (K kk) i = xs at *
      refine r_iload_n hC 2 d_MfindOrder_7 rfl rfl ?_
      refine r_aload_n hC 0 d_MfindOrder_8 rfl rfl ?_
      refine r_getI hC 5 1 161 fl_M81 (by exact hV1.k) d_MfindOrder_9 rfl rfl (by exact (hV1.fi 161 (by decide))) ?_
      rw [hi1]
      refine r_icmp_gt hC 95 d_MfindOrder_12 (by decide) (fun z => absurd z (nI_nlt (by omega) (by omega))) (fun _ => ?_)
      refine r_aload_n hC 0 d_MfindOrder_15 rfl rfl ?_
      refine r_iload_n hC 1 d_MfindOrder_16 rfl rfl ?_
      refine r_iload_n hC 2 d_MfindOrder_17 rfl rfl ?_
      refine r_cVi hC [.int (nI kk), .int (nI (i + 1))] rfl (c_MknowsRow l Θ M1 Y ar V1 I1 hV1 kk (i + 1) hk (by omega) (K kk (i + 1)) (hM1.2.2.2.1 kk (i + 1) hk (by omega))) mi_MknowsRow lk_M84 in_MknowsRow (ci := 5) rfl rfl (by exact hV1.k) rfl (Nat.le_of_ble_eq_true rfl) ⟨Nat.le_of_ble_eq_true rfl, Nat.le_of_ble_eq_true rfl⟩ ⟨Nat.le_of_ble_eq_true rfl, Nat.le_of_ble_eq_true rfl⟩ d_MfindOrder_18 (fun v M2 h2 => ?_)
      obtain ⟨rfl, rfl⟩ := h2
      refine r_if_ne hC 27 d_MfindOrder_21 (by decide) (fun z => ?_) (fun z => ?_)
      · have hkt := b2i_ne z
        rw [if_pos hkt] at ih2
        obtain ⟨-, si1, si2⟩ := srt_ins hsrt hkey
        have hple : plc R (i + 1) xs ≤ xs.length := tw_le
        obtain ⟨hO1, hO2⟩ := hO
        have inner : ∀ (q : Nat) (M3 : Mem) (V3 : Nat → Nat → Int32), plc R (i + 1) xs + q ≤ xs.length → MV M3 Y ar V3 I1 → (∀ f, f ≠ 180 → ∀ j, V3 f j = V f j) → (∀ j x, j < plc R (i + 1) xs + q → xs[j]? = some x → V3 180 j = nI x) → (∀ j x, plc R (i + 1) xs + q ≤ j → xs[j]? = some x → V3 180 (j + 1) = nI x) → Fr (MZ M) M M3 → Gj p l e (rmo 2 0 0) s m args below meth c Θ M3 [some (.ref Y), some (.int (nI kk)), some (.int (nI (i + 1))), some (.int (nI (plc R (i + 1) xs + q)))] 0 0 (Fn below args s Θ 0 0 (pV fun N => ∃ V2 I2, MV N Y ar V2 I2 ∧ OV V2 I2 (lkL R (K kk) n) ∧ (∀ f, f ≠ 180 → ∀ j, V2 f j = V f j) ∧ (∀ f, f ≠ 179 → I2 f = I f) ∧ Fr (MZ M) M N)) 32 [] := by
          have add : ∀ (M3 : Mem) (V3 : Nat → Nat → Int32), MV M3 Y ar V3 I1 → (∀ f, f ≠ 180 → ∀ j, V3 f j = V f j) → (∀ j x, j < plc R (i + 1) xs → xs[j]? = some x → V3 180 j = nI x) → (∀ j x, plc R (i + 1) xs ≤ j → xs[j]? = some x → V3 180 (j + 1) = nI x) → Fr (MZ M) M M3 → Gj p l e (rmo 2 0 0) s m args below meth c Θ M3 [some (.ref Y), some (.int (nI kk)), some (.int (nI (i + 1))), some (.int (nI (plc R (i + 1) xs)))] 0 0 (Fn below args s Θ 0 0 (pV fun N => ∃ V2 I2, MV N Y ar V2 I2 ∧ OV V2 I2 (lkL R (K kk) n) ∧ (∀ f, f ≠ 180 → ∀ j, V2 f j = V f j) ∧ (∀ f, f ≠ 179 → I2 f = I f) ∧ Fr (MZ M) M N)) 72 [] := by
            intro M3 V3 hV3 hof3 hlo hhi hF3
            refine r_aload_n hC 0 d_MfindOrder_72 rfl rfl ?_
            refine r_getS hC 5 20 180 fl_M63 (by exact hV3.k) d_MfindOrder_73 rfl rfl (by exact (hV3.rf 180 (by decide))) ?_
            refine r_iload_n hC 3 d_MfindOrder_76 rfl rfl ?_
            refine r_iload_n hC 2 d_MfindOrder_77 rfl rfl ?_
            refine r_iast hC (plc R (i + 1) xs) (hV3.ak 180 (by decide)) rfl (by rw [hV3.al 180 (by decide)]; exact (show plc R (i + 1) xs < mLn 180 from (by show plc R (i + 1) xs < 301; omega))) (by rw [hV3.al 180 (by decide)]; decide) d_MfindOrder_78 ?_
            obtain ⟨hV4, f4⟩ := hV3.st 180 (by decide) (plc R (i + 1) xs) (nI (i + 1))
            generalize sEI M3 (ar 180) (plc R (i + 1) xs) (nI (i + 1)) = M4 at hV4 f4 ⊢
            refine r_aload_n hC 0 d_MfindOrder_79 rfl rfl ?_
            refine r_dup hC d_MfindOrder_80 rfl ?_
            refine r_getI hC 5 19 179 fl_M88 (by exact hV4.k) d_MfindOrder_81 rfl rfl (by exact (hV4.fi 179 (by decide))) ?_
            rw [hO1]
            refine r_iconst hC 1 d_MfindOrder_84 (by decide) ?_
            refine r_iadd hC (nI (xs.length + 1)) d_MfindOrder_85 (nI_1 _) ?_
            refine r_putI hC 5 19 179 fl_M88 rfl (by exact hV4.k) d_MfindOrder_86 rfl rfl rfl rfl ?_
            obtain ⟨hV5, f5⟩ := hV4.si 179 (by decide) (nI (xs.length + 1))
            generalize sI M4 179 Y (nI (xs.length + 1)) = M5 at hV5 f5 ⊢
            have F4 := hF3.trans f4 (MZ.old hF3)
            refine r_ii2 hC (nI (i + 1 + 1)) d_MfindOrder_89 (nI_1 _) ?_
            refine r_goto hC 7 d_MfindOrder_92 (by decide) ?_
            refine ih2 M5 _ _ _ (by omega) hV5 ⟨?_, fun j x hj => ?_⟩ (fun f hf j => ?_) (fun f hf => ?_) (F4.trans f5 (MZ.old F4))
            · rw [insN_len]; exact va_up_self _ _ _
            · rw [insN_eq, ins_get hple] at hj
              by_cases j1 : j < plc R (i + 1) xs
              · rw [if_pos j1] at hj
                rw [up2_ne _ _ (by omega)]; exact hlo j x j1 hj
              · rw [if_neg j1] at hj
                by_cases j2 : j = plc R (i + 1) xs
                · rw [if_pos j2] at hj
                  rw [j2, up2_self, Option.some.inj hj]
                · rw [if_neg j2] at hj
                  rw [up2_ne _ _ (by omega)]
                  have h9 := hhi (j - 1) x (by omega) hj
                  rw [show j - 1 + 1 = j by omega] at h9
                  exact h9
            · rw [up2_ne _ _ (fun w => hf w.1)]; exact hof3 f hf j
            · rw [va_up_ne _ _ hf]; exact hoi f hf
          have bd := hM.2.2.2.2
          have hrow := fun x h1 h2 => hM.2.2.1 x h1 h2
          intro q
          induction q with
          | zero =>
            intro M3 V3 hq hV3 hof3 hlo hhi hF3
            refine r_iload_n hC 3 d_MfindOrder_32 rfl rfl ?_
            refine r_if_le hC 72 d_MfindOrder_33 (by decide) (fun _ => add M3 V3 hV3 hof3 hlo hhi hF3) (fun z3 => ?_)
            have hp0 : plc R (i + 1) xs ≠ 0 := fun w => z3 (by rw [w]; decide)
            obtain ⟨x, hx, hxm⟩ := get_some (l := xs) (i := plc R (i + 1) xs - 1) (by omega)
            have hbx := si1 _ x (by omega) hx
            have hvx := hlo _ x (by omega) hx
            have hmx := (hmem x).mp hxm
            have r1 := hrow (i + 1) (by omega) (by omega)
            have r2 := hrow x hmx.1 (by omega)
            refine r_aload_n hC 0 d_MfindOrder_36 rfl rfl ?_
            refine r_iload_n hC 2 d_MfindOrder_37 rfl rfl ?_
            refine r_aload_n hC 0 d_MfindOrder_38 rfl rfl ?_
            refine r_getS hC 5 20 180 fl_M63 (by exact hV3.k) d_MfindOrder_39 rfl rfl (by exact (hV3.rf 180 (by decide))) ?_
            refine r_iload_n hC 3 d_MfindOrder_42 rfl rfl ?_
            refine r_iconst hC 1 d_MfindOrder_43 (by decide) ?_
            refine r_isub hC (nI (plc R (i + 1) xs - 1)) d_MfindOrder_44 (by rw [Nat.add_zero, show (1 : Int32) = nI 1 from rfl, pk_sub (by omega)]) ?_
            refine r_iald hC (plc R (i + 1) xs - 1) (hV3.ak 180 (by decide)) rfl (by rw [hV3.al 180 (by decide)]; exact (show plc R (i + 1) xs - 1 < mLn 180 from (by show plc R (i + 1) xs - 1 < 301; omega))) (by rw [hV3.al 180 (by decide)]; decide) d_MfindOrder_45 (hV3.el 180 (by decide) (plc R (i + 1) xs - 1)) ?_
            rw [hvx]
            refine r_cVi hC [.int (nI (i + 1)), .int (nI x)] rfl (c_MisBefore l Θ M3 Y ar V3 I1 hV3 (i + 1) x (by omega) (by omega) (R (i + 1)) (R x) ((hof3 164 (by omega) _).trans r1.2.2.1) ((hof3 164 (by omega) _).trans r2.2.2.1) ((hof3 163 (by omega) _).trans r1.2.1) ((hof3 163 (by omega) _).trans r2.2.1) (bd _).1 (bd _).1 (bd _).2.1 (bd _).2.1) mi_MisBefore lk_M91 in_MisBefore (ci := 5) rfl rfl (by exact hV3.k) rfl (Nat.le_of_ble_eq_true rfl) ⟨Nat.le_of_ble_eq_true rfl, Nat.le_of_ble_eq_true rfl⟩ ⟨Nat.le_of_ble_eq_true rfl, Nat.le_of_ble_eq_true rfl⟩ d_MfindOrder_46 (fun v M4 h4 => ?_)
            obtain ⟨rfl, rfl⟩ := h4
            rw [hbx]
            refine r_if_eq hC 72 d_MfindOrder_49 (by decide) (fun _ => add M4 V3 hV3 hof3 hlo hhi hF3) (fun w => absurd rfl w)
          | succ q ihq =>
            intro M3 V3 hq hV3 hof3 hlo hhi hF3
            obtain ⟨x, hx, hxm⟩ := get_some (l := xs) (i := plc R (i + 1) xs + q) (by omega)
            have hbx := si2 _ x (by omega) hx
            have hvx := hlo _ x (by omega) hx
            have hmx := (hmem x).mp hxm
            have r1 := hrow (i + 1) (by omega) (by omega)
            have r2 := hrow x hmx.1 (by omega)
            refine r_iload_n hC 3 d_MfindOrder_32 rfl rfl ?_
            refine r_if_le hC 72 d_MfindOrder_33 (by decide) (fun w => absurd w (nI_nle (by omega) (by omega))) (fun _ => ?_)
            refine r_aload_n hC 0 d_MfindOrder_36 rfl rfl ?_
            refine r_iload_n hC 2 d_MfindOrder_37 rfl rfl ?_
            refine r_aload_n hC 0 d_MfindOrder_38 rfl rfl ?_
            refine r_getS hC 5 20 180 fl_M63 (by exact hV3.k) d_MfindOrder_39 rfl rfl (by exact (hV3.rf 180 (by decide))) ?_
            refine r_iload_n hC 3 d_MfindOrder_42 rfl rfl ?_
            refine r_iconst hC 1 d_MfindOrder_43 (by decide) ?_
            refine r_isub hC (nI (plc R (i + 1) xs + q)) d_MfindOrder_44 (nI_pred _) ?_
            refine r_iald hC (plc R (i + 1) xs + q) (hV3.ak 180 (by decide)) rfl (by rw [hV3.al 180 (by decide)]; exact (show plc R (i + 1) xs + q < mLn 180 from (by show plc R (i + 1) xs + q < 301; omega))) (by rw [hV3.al 180 (by decide)]; decide) d_MfindOrder_45 (hV3.el 180 (by decide) (plc R (i + 1) xs + q)) ?_
            rw [hvx]
            refine r_cVi hC [.int (nI (i + 1)), .int (nI x)] rfl (c_MisBefore l Θ M3 Y ar V3 I1 hV3 (i + 1) x (by omega) (by omega) (R (i + 1)) (R x) ((hof3 164 (by omega) _).trans r1.2.2.1) ((hof3 164 (by omega) _).trans r2.2.2.1) ((hof3 163 (by omega) _).trans r1.2.1) ((hof3 163 (by omega) _).trans r2.2.1) (bd _).1 (bd _).1 (bd _).2.1 (bd _).2.1) mi_MisBefore lk_M91 in_MisBefore (ci := 5) rfl rfl (by exact hV3.k) rfl (Nat.le_of_ble_eq_true rfl) ⟨Nat.le_of_ble_eq_true rfl, Nat.le_of_ble_eq_true rfl⟩ ⟨Nat.le_of_ble_eq_true rfl, Nat.le_of_ble_eq_true rfl⟩ d_MfindOrder_46 (fun v M4 h4 => ?_)
            obtain ⟨rfl, rfl⟩ := h4
            rw [hbx]
            refine r_if_eq hC 72 d_MfindOrder_49 (by decide) (fun w => absurd w i10) (fun _ => ?_)
            refine r_aload_n hC 0 d_MfindOrder_52 rfl rfl ?_
            refine r_getS hC 5 20 180 fl_M63 (by exact hV3.k) d_MfindOrder_53 rfl rfl (by exact (hV3.rf 180 (by decide))) ?_
            refine r_iload_n hC 3 d_MfindOrder_56 rfl rfl ?_
            refine r_aload_n hC 0 d_MfindOrder_57 rfl rfl ?_
            refine r_getS hC 5 20 180 fl_M63 (by exact hV3.k) d_MfindOrder_58 rfl rfl (by exact (hV3.rf 180 (by decide))) ?_
            refine r_iload_n hC 3 d_MfindOrder_61 rfl rfl ?_
            refine r_iconst hC 1 d_MfindOrder_62 (by decide) ?_
            refine r_isub hC (nI (plc R (i + 1) xs + q)) d_MfindOrder_63 (nI_pred _) ?_
            refine r_iald hC (plc R (i + 1) xs + q) (hV3.ak 180 (by decide)) rfl (by rw [hV3.al 180 (by decide)]; exact (show plc R (i + 1) xs + q < mLn 180 from (by show plc R (i + 1) xs + q < 301; omega))) (by rw [hV3.al 180 (by decide)]; decide) d_MfindOrder_64 (hV3.el 180 (by decide) (plc R (i + 1) xs + q)) ?_
            rw [hvx]
            refine r_iast hC (plc R (i + 1) xs + (q + 1)) (hV3.ak 180 (by decide)) rfl (by rw [hV3.al 180 (by decide)]; exact (show plc R (i + 1) xs + (q + 1) < mLn 180 from (by show plc R (i + 1) xs + (q + 1) < 301; omega))) (by rw [hV3.al 180 (by decide)]; decide) d_MfindOrder_65 ?_
            obtain ⟨hV5, f5⟩ := hV3.st 180 (by decide) (plc R (i + 1) xs + (q + 1)) (nI x)
            generalize sEI M4 (ar 180) (plc R (i + 1) xs + (q + 1)) (nI x) = M5 at hV5 f5 ⊢
            refine r_ii3 hC (nI (plc R (i + 1) xs + q)) d_MfindOrder_66 (pk_m1 _) ?_
            refine r_goto hC 32 d_MfindOrder_69 (by decide) ?_
            refine ihq M5 _ (by omega) hV5 (fun f hf j => ?_) (fun j y hj hy => ?_) (fun j y hj hy => ?_) (hF3.trans f5 (MZ.old hF3))
            · rw [up2_ne _ _ (fun w => hf w.1)]; exact hof3 f hf j
            · rw [up2_ne _ _ (by omega)]; exact hlo j y (by omega) hy
            · by_cases e : j = plc R (i + 1) xs + q
              · rw [e, hx] at hy
                rw [e, ← Option.some.inj hy]
                exact up2_self _ _ _ _
              · rw [up2_ne _ _ (by omega)]; exact hhi j y (by omega) hy
        refine r_aload_n hC 0 d_MfindOrder_27 rfl rfl ?_
        refine r_getI hC 5 19 179 fl_M88 (by exact hV1.k) d_MfindOrder_28 rfl rfl (by exact (hV1.fi 179 (by decide))) ?_
        rw [hO1]
        refine r_is3 hC d_MfindOrder_31 ?_
        have h8 := inner (xs.length - plc R (i + 1) xs) M2 V1 (by omega) hV1 hof (fun j x _ hx => hO2 j x hx) (fun j x hj hx => by have := (List.getElem?_eq_some_iff.mp hx).1; omega) hF
        rw [show plc R (i + 1) xs + (xs.length - plc R (i + 1) xs) = xs.length by omega] at h8
        exact h8
      · have hkf := b2i_eq z
        rw [if_neg (by rw [hkf]; decide)] at ih2
        refine r_goto hC 89 d_MfindOrder_24 (by decide) ?_
        refine r_ii2 hC (nI (i + 1 + 1)) d_MfindOrder_89 (nI_1 _) ?_
        refine r_goto hC 7 d_MfindOrder_92 (by decide) ?_
        exact ih2 M2 V1 I1 _ (by omega) hV1 hO hof hoi hF
  refine r_aload_n hC 0 d_MfindOrder_0 rfl rfl ?_
  refine r_iconst hC 0 d_MfindOrder_1 (by decide) ?_
  refine r_putI hC 5 19 179 fl_M88 rfl (by exact hV.k) d_MfindOrder_2 rfl rfl rfl rfl ?_
  obtain ⟨hV1, f1⟩ := hV.si 179 (by decide) 0
  generalize sI M 179 Y 0 = M1 at hV1 f1 ⊢
  refine r_iconst hC 1 d_MfindOrder_5 (by decide) ?_
  refine r_is2 hC d_MfindOrder_6 ?_
  refine loop n 0 M1 V _ none (by omega) hV1 ⟨va_up_self _ _ _, fun i x hi => ?_⟩ (fun _ _ _ => rfl) (fun f hf => va_up_ne _ _ hf) f1
  simp [lkL] at hi
