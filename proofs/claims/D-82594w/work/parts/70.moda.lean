theorem ix301 {k i k2 i2 : Nat} (h : i < 301) (h2 : i2 < 301) (e : 301 * k + i = 301 * k2 + i2) : k = k2 ∧ i = i2 := by omega
theorem c_Mlearn (l : Launch) (Θ : Glob) (M : Mem) (Y : Nat) (ar : Nat → Nat) (V : Nat → Nat → Int32) (I : Nat → Int32) (hV : MV M Y ar V I) (G : GS) (hM : MG V I G) (hR : RI (qR G) (qN G)) (kk : Nat) (hk : kk < 4) (hNI : NI (qR G) (qN G) (qD G kk)) (hvm : vM (qD G kk) < qN G) (j : Nat) (hj1 : 1 ≤ j) (hjn : j ≤ qN G) (hj : vK (qD G kk) j = false) : Ct l Θ y_Mlearn 3 0 0 [.ref Y, .int (nI kk), .int (nI j)] M (pV fun N => ∃ V2 I2, MV N Y ar V2 I2 ∧ MG V2 I2 (gLrn G kk j) ∧ I2 172 = -1 ∧ (∀ f, f ≠ 172 → I2 f = I f) ∧ (∀ f, f ≠ 169 → f ≠ 170 → f ≠ 171 → ∀ i, V2 f i = V f i) ∧ Fr (MZ M) M N) := by
  have hn3 := hR.1
  obtain ⟨hMR, hob, hcl⟩ := hM
  have ej := hMR.2.2.1 j hj1 hjn
  have hdk : ∀ k2, qD (gLrn G kk j) k2 = if k2 = kk then lrn (qR G) (qD G kk) j else qD G k2 := fun k2 => by
    show va_up (qD G) kk _ k2 = _
    by_cases e : k2 = kk
    · rw [e, va_up_self, if_pos rfl]
    · rw [va_up_ne _ _ e, if_neg e]
  have hKd : ∀ k2 i, vK (qD (gLrn G kk j) k2) i = if k2 = kk ∧ i = j then true else vK (qD G k2) i := fun k2 i => by
    rw [hdk]
    by_cases e : k2 = kk
    · rw [if_pos e, lrn_K]
      by_cases e2 : i = j
      · rw [e2, va_up_self, if_pos ⟨e, rfl⟩]
      · rw [va_up_ne _ _ e2, if_neg (fun w => e2 w.2), e]
    · rw [if_neg e, if_neg (fun w => e w.1)]
  have hbt := (hR.2.1 j).1
  have hvt := hNI.2.2.2.2.1
  refine Ct.start (cc := b_Mlearn) (nL := 3) (ret := none) [some (.ref Y), some (.int (nI kk)), some (.int (nI j))] mi_Mlearn.1 (by decide +kernel) (by intro v hv; simp at hv; rcases hv with rfl | rfl | rfl <;> rfl) (by simp) rfl (fun p e s m args below meth c hC => ?_)
  refine r_aload_n hC 0 d_Mlearn_0 rfl rfl ?_
  refine r_getS hC 5 9 169 fl_M32 (by exact hV.k) d_Mlearn_1 rfl rfl (by exact (hV.rf 169 (by decide))) ?_
  refine r_sipush hC 301 d_Mlearn_4 (by decide) ?_
  refine r_iload_n hC 1 d_Mlearn_7 rfl rfl ?_
  refine r_imul hC (nI (301 * kk)) d_Mlearn_8 (pk_mul 301 kk) ?_
  refine r_iload_n hC 2 d_Mlearn_9 rfl rfl ?_
  refine r_iadd hC (nI (301 * kk + j)) d_Mlearn_10 (nI_add _ _) ?_
  refine r_iconst hC 1 d_Mlearn_11 (by decide) ?_
  refine r_zast hC (301 * kk + j) (hV.ak 169 (by decide)) rfl (by rw [hV.al 169 (by decide)]; exact (show 301 * kk + j < mLn 169 from (by show 301 * kk + j < 1204; omega))) (by rw [hV.al 169 (by decide)]; decide) (Or.inr rfl) d_Mlearn_12 ?_
  obtain ⟨hV1, f1⟩ := hV.st 169 (by decide) (301 * kk + j) 1
  generalize sEI M (ar 169) (301 * kk + j) 1 = M1 at hV1 f1 ⊢
  have t1 : up2 V 169 (301 * kk + j) 1 164 j = nI (rT (qR G j)) := by rw [up2_ne _ _ (by omega)]; exact ej.2.2.1
  have c1 : up2 V 169 (301 * kk + j) 1 170 kk = nI (vT (qD G kk)) := by rw [up2_ne _ _ (by omega)]; exact (hcl kk hk).1
  have hMR1 : MR (up2 V 169 (301 * kk + j) 1) I (qN G) (qR G) (fun k => vK (qD (gLrn G kk j) k)) := by
    obtain ⟨g1, g2, g3, g4, g5⟩ := hMR
    refine ⟨g1, g2, fun i a b => ?_, fun k2 i a b => ?_, g5⟩
    · rw [up2_ne _ _ (by omega), up2_ne _ _ (by omega), up2_ne _ _ (by omega), up2_ne _ _ (by omega), up2_ne _ _ (by omega), up2_ne _ _ (by omega)]
      exact g3 i a b
    · show _ = b2i (vK (qD (gLrn G kk j) k2) i)
      rw [hKd]
      by_cases e : k2 = kk ∧ i = j
      · rw [if_pos e, e.1, e.2, up2_self]; rfl
      · rw [if_neg e, up2_ne _ _ (fun w => e (ix301 b (by omega) w.2))]; exact g4 k2 i a b
  have fin : ∀ v : Int32, v = nI (max (vT (qD G kk)) (rT (qR G j))) → Gj p l e (rmo 3 0 0) s m args below meth c Θ M1 [some (.ref Y), some (.int (nI kk)), some (.int (nI j))] 0 0 (Fn below args s Θ 0 0 (pV fun N => ∃ V2 I2, MV N Y ar V2 I2 ∧ MG V2 I2 (gLrn G kk j) ∧ I2 172 = -1 ∧ (∀ f, f ≠ 172 → I2 f = I f) ∧ (∀ f, f ≠ 169 → f ≠ 170 → f ≠ 171 → ∀ i, V2 f i = V f i) ∧ Fr (MZ M) M N)) 48 [.int v, .int (nI kk), .ref (ar 170)] := by
    intro v hv
    subst hv
    refine r_iast hC (kk) (hV1.ak 170 (by decide)) rfl (by rw [hV1.al 170 (by decide)]; exact (show kk < mLn 170 from (by show kk < 4; omega))) (by rw [hV1.al 170 (by decide)]; decide) d_Mlearn_48 ?_
    obtain ⟨hV2, f2⟩ := hV1.st 170 (by decide) kk (nI (max (vT (qD G kk)) (rT (qR G j))))
    generalize sEI M1 (ar 170) kk (nI (max (vT (qD G kk)) (rT (qR G j)))) = M2 at hV2 f2 ⊢
    have hMR2 : MR (up2 (up2 V 169 (301 * kk + j) 1) 170 kk (nI (max (vT (qD G kk)) (rT (qR G j))))) I (qN G) (qR G) (fun k => vK (qD (gLrn G kk j) k)) := hMR1.cg (fun f hf i => up2_ne _ _ (by omega)) rfl
    have hKk : vK (qD (gLrn G kk j) kk) = va_up (vK (qD G kk)) j true := by rw [hdk, if_pos rfl, lrn_K]
    have hcF : cF (qR G) (qN G) (vK (qD (gLrn G kk j) kk)) j = vO (lrn (qR G) (qD G kk) j) := by rw [hKk]; exact cF_eq hR hNI hj1 hjn hj hvm
    refine r_aload_n hC 0 d_Mlearn_49 rfl rfl ?_
    refine r_getS hC 5 11 171 fl_M39 (by exact hV2.k) d_Mlearn_50 rfl rfl (by exact (hV2.rf 171 (by decide))) ?_
    refine r_iload_n hC 1 d_Mlearn_53 rfl rfl ?_
    refine r_aload_n hC 0 d_Mlearn_54 rfl rfl ?_
    refine r_iload_n hC 1 d_Mlearn_55 rfl rfl ?_
    refine r_iload_n hC 2 d_Mlearn_56 rfl rfl ?_
    refine r_cVi hC [.int (nI kk), .int (nI j)] rfl (c_McostOf l Θ M2 Y ar _ I hV2 (qN G) (qR G) _ hMR2 hR kk j hk hj1 hjn) mi_McostOf lk_M141 in_McostOf (ci := 5) rfl rfl (by exact hV2.k) rfl (Nat.le_of_ble_eq_true rfl) ⟨Nat.le_of_ble_eq_true rfl, Nat.le_of_ble_eq_true rfl⟩ ⟨Nat.le_of_ble_eq_true rfl, Nat.le_of_ble_eq_true rfl⟩ d_Mlearn_57 (fun v M3 h3 => ?_)
    obtain ⟨rfl, rfl⟩ := h3
    rw [hcF]
    refine r_iast hC (kk) (hV2.ak 171 (by decide)) rfl (by rw [hV2.al 171 (by decide)]; exact (show kk < mLn 171 from (by show kk < 4; omega))) (by rw [hV2.al 171 (by decide)]; decide) d_Mlearn_60 ?_
    obtain ⟨hV3, f3⟩ := hV2.st 171 (by decide) kk (nI (vO (lrn (qR G) (qD G kk) j)))
    generalize sEI M3 (ar 171) kk (nI (vO (lrn (qR G) (qD G kk) j))) = M4 at hV3 f3 ⊢
    refine r_aload_n hC 0 d_Mlearn_61 rfl rfl ?_
    refine r_iconst hC (-1) d_Mlearn_62 (by decide) ?_
    refine r_putI hC 5 12 172 fl_M42 rfl (by exact hV3.k) d_Mlearn_63 rfl rfl rfl rfl ?_
    obtain ⟨hV4, f4⟩ := hV3.si 172 (by decide) (-1)
    have F2 := f1.trans f2 (MZ.old f1)
    have F3 := F2.trans f3 (MZ.old F2)
    refine r_vret hC d_Mlearn_66 (Nat.le_refl _) (Nat.le_refl _) ⟨rfl, _, _, hV4, ⟨hMR2.cg (fun f hf i => up2_ne _ _ (by omega)) (va_up_ne _ _ (by omega)), (va_up_ne _ _ (by omega)).trans hob, fun k2 hk2 => ?_⟩, va_up_self _ _ _, fun f hf => va_up_ne _ _ hf, (fun f a b d i => by rw [up2_ne _ _ (fun w => d w.1), up2_ne _ _ (fun w => b w.1), up2_ne _ _ (fun w => a w.1)]), F3.trans f4 (MZ.old F3)⟩
    rw [hdk]
    by_cases e : k2 = kk
    · rw [if_pos e, e, up2_self, up2_ne _ _ (by omega), up2_self, lrn_T]; exact ⟨rfl, rfl⟩
    · rw [if_neg e, up2_ne _ _ (by omega), up2_ne _ _ (fun w => e w.2), up2_ne _ _ (by omega), up2_ne _ _ (fun w => e w.2), up2_ne _ _ (by omega), up2_ne _ _ (by omega)]
      exact hcl k2 hk2
  refine r_aload_n hC 0 d_Mlearn_13 rfl rfl ?_
  refine r_getS hC 5 10 170 fl_M36 (by exact hV1.k) d_Mlearn_14 rfl rfl (by exact (hV1.rf 170 (by decide))) ?_
  refine r_iload_n hC 1 d_Mlearn_17 rfl rfl ?_
  refine r_aload_n hC 0 d_Mlearn_18 rfl rfl ?_
  refine r_getS hC 5 4 164 fl_M16 (by exact hV1.k) d_Mlearn_19 rfl rfl (by exact (hV1.rf 164 (by decide))) ?_
  refine r_iload_n hC 2 d_Mlearn_22 rfl rfl ?_
  refine r_iald hC (j) (hV1.ak 164 (by decide)) rfl (by rw [hV1.al 164 (by decide)]; exact (show j < mLn 164 from (by show j < 301; omega))) (by rw [hV1.al 164 (by decide)]; decide) d_Mlearn_23 (hV1.el 164 (by decide) (j)) ?_
  refine r_aload_n hC 0 d_Mlearn_24 rfl rfl ?_
  refine r_getS hC 5 10 170 fl_M36 (by exact hV1.k) d_Mlearn_25 rfl rfl (by exact (hV1.rf 170 (by decide))) ?_
  refine r_iload_n hC 1 d_Mlearn_28 rfl rfl ?_
  refine r_iald hC (kk) (hV1.ak 170 (by decide)) rfl (by rw [hV1.al 170 (by decide)]; exact (show kk < mLn 170 from (by show kk < 4; omega))) (by rw [hV1.al 170 (by decide)]; decide) d_Mlearn_29 (hV1.el 170 (by decide) (kk)) ?_
  rw [t1, c1]
  refine r_icmp_le hC 42 d_Mlearn_30 (by decide) (fun z => ?_) (fun z => ?_)
  · have hle := (nI_leI (by omega) (by omega)).mp z
    refine r_aload_n hC 0 d_Mlearn_42 rfl rfl ?_
    refine r_getS hC 5 10 170 fl_M36 (by exact hV1.k) d_Mlearn_43 rfl rfl (by exact (hV1.rf 170 (by decide))) ?_
    refine r_iload_n hC 1 d_Mlearn_46 rfl rfl ?_
    refine r_iald hC (kk) (hV1.ak 170 (by decide)) rfl (by rw [hV1.al 170 (by decide)]; exact (show kk < mLn 170 from (by show kk < 4; omega))) (by rw [hV1.al 170 (by decide)]; decide) d_Mlearn_47 (hV1.el 170 (by decide) (kk)) ?_
    rw [c1]
    exact fin _ (by rw [Nat.max_eq_left hle])
  · have hlt : ¬ rT (qR G j) ≤ vT (qD G kk) := fun w => z (nI_le w (by omega))
    refine r_aload_n hC 0 d_Mlearn_33 rfl rfl ?_
    refine r_getS hC 5 4 164 fl_M16 (by exact hV1.k) d_Mlearn_34 rfl rfl (by exact (hV1.rf 164 (by decide))) ?_
    refine r_iload_n hC 2 d_Mlearn_37 rfl rfl ?_
    refine r_iald hC (j) (hV1.ak 164 (by decide)) rfl (by rw [hV1.al 164 (by decide)]; exact (show j < mLn 164 from (by show j < 301; omega))) (by rw [hV1.al 164 (by decide)]; decide) d_Mlearn_38 (hV1.el 164 (by decide) (j)) ?_
    rw [t1]
    refine r_goto hC 48 d_Mlearn_39 (by decide) ?_
    exact fin _ (by rw [Nat.max_eq_right (by omega)])
theorem c_Madd (l : Launch) (Θ : Glob) (M : Mem) (Y : Nat) (ar : Nat → Nat) (V : Nat → Nat → Int32) (I : Nat → Int32) (hV : MV M Y ar V I) (G : GS) (hG : GI G) (ob : Nat) (hM : MG V I (qN G, qR G, ob, qD G)) (kk ss oo : Nat) (pp bb : Option Nat) (hk : kk < 4) (hn : qN G < 300) (hoo : oo < 2 ^ 30) (hss : ss < 5) (hRI : RI (va_up (qR G) (qN G + 1) (ss, kk, vT (qD G kk) + 1, oo, pp, bb)) (qN G + 1)) : Ct l Θ y_Madd 4 0 0 [.ref Y, .int (nI kk), .int (nI ss), .int (nI oo), .int (oO pp), .int (oO bb)] M (pI fun v N => v = nI (qN G + 1) ∧ (∃ V2 I2, MV N Y ar V2 I2 ∧ MG V2 I2 (gAddO G kk ss oo pp bb ob) ∧ I2 172 = -1 ∧ V2 165 (qN G + 1) = nI oo) ∧ Fr (MZ M) M N) := by
  obtain ⟨hMR, hob, hcl⟩ := hM
  have hi1 : I 161 = nI (qN G) := hMR.1
  have hNI := hG.2.2.1 kk hk
  refine Ct.start (cc := b_Madd) (nL := 6) (ret := (some .int)) [some (.ref Y), some (.int (nI kk)), some (.int (nI ss)), some (.int (nI oo)), some (.int (oO pp)), some (.int (oO bb))] mi_Madd.1 (by decide +kernel) (by intro v hv; simp at hv; rcases hv with rfl | rfl | rfl | rfl | rfl | rfl <;> rfl) (by simp) rfl (fun p e s m args below meth c hC => ?_)
  refine r_aload_n hC 0 d_Madd_0 rfl rfl ?_
  refine r_dup hC d_Madd_1 rfl ?_
  refine r_getI hC 5 1 161 fl_M81 (by exact hV.k) d_Madd_2 rfl rfl (by exact (hV.fi 161 (by decide))) ?_
  rw [hi1]
  refine r_iconst hC 1 d_Madd_5 (by decide) ?_
  refine r_iadd hC (nI (qN G + 1)) d_Madd_6 (nI_1 _) ?_
  refine r_putI hC 5 1 161 fl_M81 rfl (by exact hV.k) d_Madd_7 rfl rfl rfl rfl ?_
  obtain ⟨hV1, f1⟩ := hV.si 161 (by decide) (nI (qN G + 1))
  generalize sI M 161 Y (nI (qN G + 1)) = M1 at hV1 f1 ⊢
  have j1 : va_up I 161 (nI (qN G + 1)) 161 = nI (qN G + 1) := va_up_self _ _ _
  refine r_aload_n hC 0 d_Madd_10 rfl rfl ?_
  refine r_getS hC 5 2 162 fl_M7 (by exact hV1.k) d_Madd_11 rfl rfl (by exact (hV1.rf 162 (by decide))) ?_
  refine r_aload_n hC 0 d_Madd_14 rfl rfl ?_
  refine r_getI hC 5 1 161 fl_M81 (by exact hV1.k) d_Madd_15 rfl rfl (by exact (hV1.fi 161 (by decide))) ?_
  rw [j1]
  refine r_iload_n hC 2 d_Madd_18 rfl rfl ?_
  refine r_iast hC (qN G + 1) (hV1.ak 162 (by decide)) rfl (by rw [hV1.al 162 (by decide)]; exact (show qN G + 1 < mLn 162 from (by show qN G + 1 < 301; omega))) (by rw [hV1.al 162 (by decide)]; decide) d_Madd_19 ?_
  obtain ⟨hS1, g1⟩ := hV1.st 162 (by decide) (qN G + 1) (nI ss)
  generalize sEI M1 (ar 162) (qN G + 1) (nI ss) = N1 at hS1 g1 ⊢
  refine r_aload_n hC 0 d_Madd_20 rfl rfl ?_
  refine r_getS hC 5 3 163 fl_M13 (by exact hS1.k) d_Madd_21 rfl rfl (by exact (hS1.rf 163 (by decide))) ?_
  refine r_aload_n hC 0 d_Madd_24 rfl rfl ?_
  refine r_getI hC 5 1 161 fl_M81 (by exact hS1.k) d_Madd_25 rfl rfl (by exact (hS1.fi 161 (by decide))) ?_
  rw [j1]
  refine r_iload_n hC 1 d_Madd_28 rfl rfl ?_
  refine r_iast hC (qN G + 1) (hS1.ak 163 (by decide)) rfl (by rw [hS1.al 163 (by decide)]; exact (show qN G + 1 < mLn 163 from (by show qN G + 1 < 301; omega))) (by rw [hS1.al 163 (by decide)]; decide) d_Madd_29 ?_
  obtain ⟨hS2, g2⟩ := hS1.st 163 (by decide) (qN G + 1) (nI kk)
  generalize sEI N1 (ar 163) (qN G + 1) (nI kk) = N2 at hS2 g2 ⊢
  refine r_aload_n hC 0 d_Madd_30 rfl rfl ?_
  refine r_getS hC 5 4 164 fl_M16 (by exact hS2.k) d_Madd_31 rfl rfl (by exact (hS2.rf 164 (by decide))) ?_
  refine r_aload_n hC 0 d_Madd_34 rfl rfl ?_
  refine r_getI hC 5 1 161 fl_M81 (by exact hS2.k) d_Madd_35 rfl rfl (by exact (hS2.fi 161 (by decide))) ?_
  rw [j1]
  refine r_aload_n hC 0 d_Madd_38 rfl rfl ?_
  refine r_getS hC 5 10 170 fl_M36 (by exact hS2.k) d_Madd_39 rfl rfl (by exact (hS2.rf 170 (by decide))) ?_
  refine r_iload_n hC 1 d_Madd_42 rfl rfl ?_
  refine r_iald hC (kk) (hS2.ak 170 (by decide)) rfl (by rw [hS2.al 170 (by decide)]; exact (show kk < mLn 170 from (by show kk < 4; omega))) (by rw [hS2.al 170 (by decide)]; decide) d_Madd_43 (hS2.el 170 (by decide) (kk)) ?_
  rw [show (up2 (up2 V 162 (qN G + 1) (nI ss)) 163 (qN G + 1) (nI kk)) 170 kk = nI (vT (qD G kk)) by rw [up2_ne _ _ (by omega), up2_ne _ _ (by omega)]; exact (hcl kk hk).1]
  refine r_iconst hC 1 d_Madd_44 (by decide) ?_
  refine r_iadd hC (nI (vT (qD G kk) + 1)) d_Madd_45 (nI_1 _) ?_
  refine r_iast hC (qN G + 1) (hS2.ak 164 (by decide)) rfl (by rw [hS2.al 164 (by decide)]; exact (show qN G + 1 < mLn 164 from (by show qN G + 1 < 301; omega))) (by rw [hS2.al 164 (by decide)]; decide) d_Madd_46 ?_
  obtain ⟨hS3, g3⟩ := hS2.st 164 (by decide) (qN G + 1) (nI (vT (qD G kk) + 1))
  generalize sEI N2 (ar 164) (qN G + 1) (nI (vT (qD G kk) + 1)) = N3 at hS3 g3 ⊢
  refine r_aload_n hC 0 d_Madd_47 rfl rfl ?_
  refine r_getS hC 5 5 165 fl_M19 (by exact hS3.k) d_Madd_48 rfl rfl (by exact (hS3.rf 165 (by decide))) ?_
  refine r_aload_n hC 0 d_Madd_51 rfl rfl ?_
  refine r_getI hC 5 1 161 fl_M81 (by exact hS3.k) d_Madd_52 rfl rfl (by exact (hS3.fi 161 (by decide))) ?_
  rw [j1]
  refine r_iload_n hC 3 d_Madd_55 rfl rfl ?_
  refine r_iast hC (qN G + 1) (hS3.ak 165 (by decide)) rfl (by rw [hS3.al 165 (by decide)]; exact (show qN G + 1 < mLn 165 from (by show qN G + 1 < 301; omega))) (by rw [hS3.al 165 (by decide)]; decide) d_Madd_56 ?_
  obtain ⟨hS4, g4⟩ := hS3.st 165 (by decide) (qN G + 1) (nI oo)
  generalize sEI N3 (ar 165) (qN G + 1) (nI oo) = N4 at hS4 g4 ⊢
  refine r_aload_n hC 0 d_Madd_57 rfl rfl ?_
  refine r_getS hC 5 6 166 fl_M22 (by exact hS4.k) d_Madd_58 rfl rfl (by exact (hS4.rf 166 (by decide))) ?_
  refine r_aload_n hC 0 d_Madd_61 rfl rfl ?_
  refine r_getI hC 5 1 161 fl_M81 (by exact hS4.k) d_Madd_62 rfl rfl (by exact (hS4.fi 161 (by decide))) ?_
  rw [j1]
  refine r_iload hC 4 d_Madd_65 rfl ?_
  refine r_iast hC (qN G + 1) (hS4.ak 166 (by decide)) rfl (by rw [hS4.al 166 (by decide)]; exact (show qN G + 1 < mLn 166 from (by show qN G + 1 < 301; omega))) (by rw [hS4.al 166 (by decide)]; decide) d_Madd_67 ?_
  obtain ⟨hS5, g5⟩ := hS4.st 166 (by decide) (qN G + 1) (oO pp)
  generalize sEI N4 (ar 166) (qN G + 1) (oO pp) = N5 at hS5 g5 ⊢
  refine r_aload_n hC 0 d_Madd_68 rfl rfl ?_
  refine r_getS hC 5 7 167 fl_M25 (by exact hS5.k) d_Madd_69 rfl rfl (by exact (hS5.rf 167 (by decide))) ?_
  refine r_aload_n hC 0 d_Madd_72 rfl rfl ?_
  refine r_getI hC 5 1 161 fl_M81 (by exact hS5.k) d_Madd_73 rfl rfl (by exact (hS5.fi 161 (by decide))) ?_
  rw [j1]
  refine r_iload hC 5 d_Madd_76 rfl ?_
  refine r_iast hC (qN G + 1) (hS5.ak 167 (by decide)) rfl (by rw [hS5.al 167 (by decide)]; exact (show qN G + 1 < mLn 167 from (by show qN G + 1 < 301; omega))) (by rw [hS5.al 167 (by decide)]; decide) d_Madd_78 ?_
  obtain ⟨hS6, g6⟩ := hS5.st 167 (by decide) (qN G + 1) (oO bb)
  generalize sEI N5 (ar 167) (qN G + 1) (oO bb) = N6 at hS6 g6 ⊢
  have hMR6 : MR (up2 (up2 (up2 (up2 (up2 (up2 V 162 (qN G + 1) (nI ss)) 163 (qN G + 1) (nI kk)) 164 (qN G + 1) (nI (vT (qD G kk) + 1))) 165 (qN G + 1) (nI oo)) 166 (qN G + 1) (oO pp)) 167 (qN G + 1) (oO bb)) (va_up I 161 (nI (qN G + 1))) (qN G + 1) (va_up (qR G) (qN G + 1) (ss, kk, vT (qD G kk) + 1, oo, pp, bb)) (fun k => vK (qD G k)) := by
    obtain ⟨h1, h2, h3, h4, h5⟩ := hMR
    refine ⟨va_up_self _ _ _, by omega, fun i a b => ?_, fun k2 i a b => ?_, fun i => ?_⟩
    · by_cases e : i = qN G + 1
      · rw [e, va_up_self]
        exact ⟨by rw [up2_ne _ _ (by omega), up2_ne _ _ (by omega), up2_ne _ _ (by omega), up2_ne _ _ (by omega), up2_ne _ _ (by omega), up2_self]; rfl, by rw [up2_ne _ _ (by omega), up2_ne _ _ (by omega), up2_ne _ _ (by omega), up2_ne _ _ (by omega), up2_self]; rfl, by rw [up2_ne _ _ (by omega), up2_ne _ _ (by omega), up2_ne _ _ (by omega), up2_self]; rfl, by rw [up2_ne _ _ (by omega), up2_ne _ _ (by omega), up2_self]; rfl, by rw [up2_ne _ _ (by omega), up2_self]; rfl, by rw [up2_self]; rfl⟩
      · rw [va_up_ne _ _ e]
        have g := h3 i a (show i ≤ qN G by omega)
        have nn : ∀ f, (up2 (up2 (up2 (up2 (up2 (up2 V 162 (qN G + 1) (nI ss)) 163 (qN G + 1) (nI kk)) 164 (qN G + 1) (nI (vT (qD G kk) + 1))) 165 (qN G + 1) (nI oo)) 166 (qN G + 1) (oO pp)) 167 (qN G + 1) (oO bb)) f i = V f i := fun f => by rw [up2_ne _ _ (fun w => e w.2), up2_ne _ _ (fun w => e w.2), up2_ne _ _ (fun w => e w.2), up2_ne _ _ (fun w => e w.2), up2_ne _ _ (fun w => e w.2), up2_ne _ _ (fun w => e w.2)]
        rw [nn, nn, nn, nn, nn, nn]
        exact g
    · rw [up2_ne _ _ (by omega), up2_ne _ _ (by omega), up2_ne _ _ (by omega), up2_ne _ _ (by omega), up2_ne _ _ (by omega), up2_ne _ _ (by omega)]; exact h4 k2 i a b
    · have hb := hRI.2.1 i
      refine ⟨by omega, by omega, by omega, fun a b => ?_⟩
      by_cases e : i = qN G + 1
      · rw [e, va_up_self]; exact hoo
      · rw [va_up_ne _ _ e]; exact (h5 i).2.2.2 a (show i ≤ qN G by omega)
  have hMG6 : MG (up2 (up2 (up2 (up2 (up2 (up2 V 162 (qN G + 1) (nI ss)) 163 (qN G + 1) (nI kk)) 164 (qN G + 1) (nI (vT (qD G kk) + 1))) 165 (qN G + 1) (nI oo)) 166 (qN G + 1) (oO pp)) 167 (qN G + 1) (oO bb)) (va_up I 161 (nI (qN G + 1))) (qN G + 1, va_up (qR G) (qN G + 1) (ss, kk, vT (qD G kk) + 1, oo, pp, bb), ob, qD G) := ⟨hMR6, (va_up_ne _ _ (by omega)).trans hob, fun k2 hk2 => by
    rw [up2_ne _ _ (by omega), up2_ne _ _ (by omega), up2_ne _ _ (by omega), up2_ne _ _ (by omega), up2_ne _ _ (by omega), up2_ne _ _ (by omega), up2_ne _ _ (by omega), up2_ne _ _ (by omega), up2_ne _ _ (by omega), up2_ne _ _ (by omega), up2_ne _ _ (by omega), up2_ne _ _ (by omega)]
    exact hcl k2 hk2⟩
  have hNI6 : NI (va_up (qR G) (qN G + 1) (ss, kk, vT (qD G kk) + 1, oo, pp, bb)) (qN G + 1) (qD G kk) := hNI.up (fun i hi => va_up_ne _ _ (by omega))
  have hkf : vK (qD G kk) (qN G + 1) = false := by
    cases hv : vK (qD G kk) (qN G + 1) with
    | false => rfl
    | true => have := (hNI.1 _ hv).2; omega
  have F1 := f1.trans g1 (MZ.old f1)
  have F2 := F1.trans g2 (MZ.old F1)
  have F3 := F2.trans g3 (MZ.old F2)
  have F4 := F3.trans g4 (MZ.old F3)
  have F5 := F4.trans g5 (MZ.old F4)
  have F6 := F5.trans g6 (MZ.old F5)
  refine r_aload_n hC 0 d_Madd_79 rfl rfl ?_
  refine r_iload_n hC 1 d_Madd_80 rfl rfl ?_
  refine r_aload_n hC 0 d_Madd_81 rfl rfl ?_
  refine r_getI hC 5 1 161 fl_M81 (by exact hS6.k) d_Madd_82 rfl rfl (by exact (hS6.fi 161 (by decide))) ?_
  rw [j1]
  refine r_cVv hC [.int (nI kk), .int (nI (qN G + 1))] rfl (c_Mlearn l Θ N6 Y ar _ _ hS6 (qN G + 1, va_up (qR G) (qN G + 1) (ss, kk, vT (qD G kk) + 1, oo, pp, bb), ob, qD G) hMG6 hRI kk hk hNI6 (by have := hNI.2.2.2.2.2; show vM (qD G kk) < qN G + 1; omega) (qN G + 1) (by omega) (Nat.le_refl _) hkf) mi_Mlearn lk_M144 in_Mlearn (ci := 5) rfl rfl (by exact hS6.k) rfl (Nat.le_of_ble_eq_true rfl) ⟨Nat.le_of_ble_eq_true rfl, Nat.le_of_ble_eq_true rfl⟩ ⟨Nat.le_of_ble_eq_true rfl, Nat.le_of_ble_eq_true rfl⟩ d_Madd_85 (fun M8 h8 => ?_)
  obtain ⟨V8, I8, hV8, hMG8, hb8, hi8, -, f8⟩ := h8
  have hi9 : I8 161 = nI (qN G + 1) := (hi8 161 (by omega)).trans j1
  have hw := (hMG8.1.2.2.1 (qN G + 1) (by omega) (Nat.le_refl _)).2.2.2.1
  have hw : V8 165 (qN G + 1) = nI (rO (va_up (qR G) (qN G + 1) (ss, kk, vT (qD G kk) + 1, oo, pp, bb) (qN G + 1))) := hw
  rw [va_up_self] at hw
  refine r_aload_n hC 0 d_Madd_88 rfl rfl ?_
  refine r_getI hC 5 1 161 fl_M81 (by exact hV8.k) d_Madd_89 rfl rfl (by exact (hV8.fi 161 (by decide))) ?_
  rw [hi9]
  exact r_iret hC d_Madd_92 (Nat.le_refl _) (Nat.le_refl _) ⟨_, rfl, rfl, ⟨V8, I8, hV8, hMG8, hb8, hw⟩, F6.trans f8 (MZ.old F6)⟩
