theorem c_Mcost (l : Launch) (Θ : Glob) (M : Mem) (Y : Nat) (ar : Nat → Nat) (G : GS) (hG : GI G) (hO : MO M Y ar G) (x : Int32) : Ct l Θ y_Mcost 3 0 0 [.ref Y, .int x] M (pI fun r N => r = aCost G x ∧ MO N Y ar G ∧ Fr (MZ M) M N) := by
  obtain ⟨V, I0, hV0, hM0, hB0⟩ := hO
  have hn300 := hG.1.1
  have hob := hG.2.1
  refine Ct.start (cc := b_Mcost) (nL := 2) (ret := (some .int)) [some (.ref Y), some (.int x)] mi_Mcost.1 (by decide +kernel) (by intro v hv; simp at hv; rcases hv with rfl | rfl <;> rfl) (by simp) rfl (fun p e s m args below meth c hC => ?_)
  refine r_aload_n hC 0 d_Mcost_0 rfl rfl ?_
  refine r_iconst hC 0 d_Mcost_1 (by decide) ?_
  refine r_putI hC 5 0 160 fl_M78 rfl (by exact hV0.k) d_Mcost_2 rfl rfl rfl rfl ?_
  obtain ⟨hV, f1⟩ := hV0.si 160 (by decide) 0
  generalize hIe : va_up I0 160 0 = I at hV
  have hM : MG V I G := hM0.cg (fun _ _ _ => rfl) (by rw [← hIe]; exact ⟨va_up_ne _ _ (by omega), va_up_ne _ _ (by omega)⟩)
  have hB : I 172 = -1 ∨ ∃ k, k < 4 ∧ I 172 = nI k ∧ BV V G k := by rw [← hIe, va_up_ne _ _ (by omega)]; exact hB0
  have hO1 : MO (sI M 160 Y 0) Y ar G := ⟨V, I, hV, hM, hB⟩
  generalize sI M 160 Y 0 = M1 at hV f1 hO1 ⊢
  have hi1 : I 161 = nI (qN G) := hM.1.1
  have ho1 : I 168 = nI (qO G) := hM.2.1
  clear hV0 hM0 hB0 hIe
  refine r_iload_n hC 1 d_Mcost_5 rfl rfl ?_
  refine r_cSi hC [.int x] rfl (c_MisNode l Θ M1 x) mi_MisNode lk_M152 in_MisNode rfl (Nat.le_of_ble_eq_true rfl) ⟨Nat.le_of_ble_eq_true rfl, Nat.le_of_ble_eq_true rfl⟩ ⟨Nat.le_of_ble_eq_true rfl, Nat.le_of_ble_eq_true rfl⟩ d_Mcost_6 (fun r M2 h2 => ?_)
  obtain ⟨rfl, rfl⟩ := h2
  rcases ix_cases 4 x (by omega) with ⟨k, hk, rfl, ex⟩ | ⟨-, ex⟩
  · rw [ex]
    have ea : aCost G (nI k) = nI (vO (qD G k)) := by unfold aCost; rw [ex]
    rw [ea]
    refine r_if_eq hC 21 d_Mcost_9 (by decide) (fun z => absurd z i10) (fun _ => ?_)
    refine r_aload_n hC 0 d_Mcost_12 rfl rfl ?_
    refine r_getS hC 5 11 171 fl_M39 (by exact hV.k) d_Mcost_13 rfl rfl (by exact (hV.rf 171 (by decide))) ?_
    refine r_iload_n hC 1 d_Mcost_16 rfl rfl ?_
    refine r_iald hC (k) (hV.ak 171 (by decide)) rfl (by rw [hV.al 171 (by decide)]; exact (show k < mLn 171 from (by show k < 4; omega))) (by rw [hV.al 171 (by decide)]; decide) d_Mcost_17 (hV.el 171 (by decide) (k)) ?_
    rw [(hM.2.2 k hk).2]
    refine r_goto hC 22 d_Mcost_18 (by decide) ?_
    exact r_iret hC d_Mcost_22 (Nat.le_refl _) (Nat.le_refl _) ⟨_, rfl, rfl, hO1, f1⟩
  · have ea : aCost G x = -1 := by unfold aCost; rw [ex]
    rw [ex, ea]
    refine r_if_eq hC 21 d_Mcost_9 (by decide) (fun _ => ?_) (fun z => absurd rfl z)
    refine r_iconst hC (-1) d_Mcost_21 (by decide) ?_
    exact r_iret hC d_Mcost_22 (Nat.le_refl _) (Nat.le_refl _) ⟨_, rfl, rfl, hO1, f1⟩
theorem c_Mrow (l : Launch) (Θ : Glob) (M : Mem) (Y : Nat) (ar : Nat → Nat) (G : GS) (hG : GI G) (hO : MO M Y ar G) (x y : Int32) : Ct l Θ y_Mrow 3 0 0 [.ref Y, .int x, .int y] M (pI fun r N => r = aRow G x y ∧ MO N Y ar G ∧ Fr (MZ M) M N) := by
  obtain ⟨V, I0, hV0, hM0, hB0⟩ := hO
  have hn300 := hG.1.1
  have hob := hG.2.1
  refine Ct.start (cc := b_Mrow) (nL := 3) (ret := (some .int)) [some (.ref Y), some (.int x), some (.int y)] mi_Mrow.1 (by decide +kernel) (by intro v hv; simp at hv; rcases hv with rfl | rfl | rfl <;> rfl) (by simp) rfl (fun p e s m args below meth c hC => ?_)
  refine r_aload_n hC 0 d_Mrow_0 rfl rfl ?_
  refine r_iconst hC 0 d_Mrow_1 (by decide) ?_
  refine r_putI hC 5 0 160 fl_M78 rfl (by exact hV0.k) d_Mrow_2 rfl rfl rfl rfl ?_
  obtain ⟨hV, f1⟩ := hV0.si 160 (by decide) 0
  generalize hIe : va_up I0 160 0 = I at hV
  have hM : MG V I G := hM0.cg (fun _ _ _ => rfl) (by rw [← hIe]; exact ⟨va_up_ne _ _ (by omega), va_up_ne _ _ (by omega)⟩)
  have hB : I 172 = -1 ∨ ∃ k, k < 4 ∧ I 172 = nI k ∧ BV V G k := by rw [← hIe, va_up_ne _ _ (by omega)]; exact hB0
  have hO1 : MO (sI M 160 Y 0) Y ar G := ⟨V, I, hV, hM, hB⟩
  generalize sI M 160 Y 0 = M1 at hV f1 hO1 ⊢
  have hi1 : I 161 = nI (qN G) := hM.1.1
  have ho1 : I 168 = nI (qO G) := hM.2.1
  clear hV0 hM0 hB0 hIe
  refine r_iload_n hC 1 d_Mrow_5 rfl rfl ?_
  refine r_iconst hC 1 d_Mrow_6 (by decide) ?_
  refine r_aload_n hC 0 d_Mrow_7 rfl rfl ?_
  refine r_getI hC 5 1 161 fl_M81 (by exact hV.k) d_Mrow_8 rfl rfl (by exact (hV.fi 161 (by decide))) ?_
  rw [hi1]
  refine r_cSi hC [.int x, .int 1, .int (nI (qN G))] rfl (c_Mwithin l Θ M1 x 1 (nI (qN G))) mi_Mwithin lk_M148 in_Mwithin rfl (Nat.le_of_ble_eq_true rfl) ⟨Nat.le_of_ble_eq_true rfl, Nat.le_of_ble_eq_true rfl⟩ ⟨Nat.le_of_ble_eq_true rfl, Nat.le_of_ble_eq_true rfl⟩ d_Mrow_11 (fun r M2 h2 => ?_)
  obtain ⟨rfl, rfl⟩ := h2
  rw [wi_rx (by omega)]
  rcases rx_cases (qN G) x (by omega) with ⟨i, hi1', hin, rfl, e⟩ | ⟨-, e⟩
  · have ea : aRow G (nI i) y = rowF (qR G i) y := by unfold aRow; rw [e]
    rw [e, ea]
    have hr := hM.1.2.2.1 i hi1' hin
    refine r_if_ne hC 19 d_Mrow_14 (by decide) (fun _ => ?_) (fun z => absurd z i10)
    refine r_iload_n hC 2 d_Mrow_19 rfl rfl ?_
    rcases sw6 y with rfl | rfl | rfl | rfl | rfl | rfl | ⟨hy, y0, y1, y2, y3, y4, y5⟩
    · refine r_tableIn hC 60 d_Mrow_20 (by decide) (by decide) rfl (by decide) ?_
      refine r_aload_n hC 0 d_Mrow_60 rfl rfl ?_
      refine r_getS hC 5 2 162 fl_M7 (by exact hV.k) d_Mrow_61 rfl rfl (by exact (hV.rf 162 (by decide))) ?_
      refine r_iload_n hC 1 d_Mrow_64 rfl rfl ?_
      refine r_iald hC (i) (hV.ak 162 (by decide)) rfl (by rw [hV.al 162 (by decide)]; exact (show i < mLn 162 from (by show i < 301; omega))) (by rw [hV.al 162 (by decide)]; decide) d_Mrow_65 (hV.el 162 (by decide) (i)) ?_
      exact r_iret hC d_Mrow_66 (Nat.le_refl _) (Nat.le_refl _) ⟨_, rfl, hr.1, hO1, f1⟩
    · refine r_tableIn hC 67 d_Mrow_20 (by decide) (by decide) rfl (by decide) ?_
      refine r_aload_n hC 0 d_Mrow_67 rfl rfl ?_
      refine r_getS hC 5 3 163 fl_M13 (by exact hV.k) d_Mrow_68 rfl rfl (by exact (hV.rf 163 (by decide))) ?_
      refine r_iload_n hC 1 d_Mrow_71 rfl rfl ?_
      refine r_iald hC (i) (hV.ak 163 (by decide)) rfl (by rw [hV.al 163 (by decide)]; exact (show i < mLn 163 from (by show i < 301; omega))) (by rw [hV.al 163 (by decide)]; decide) d_Mrow_72 (hV.el 163 (by decide) (i)) ?_
      exact r_iret hC d_Mrow_73 (Nat.le_refl _) (Nat.le_refl _) ⟨_, rfl, hr.2.1, hO1, f1⟩
    · refine r_tableIn hC 74 d_Mrow_20 (by decide) (by decide) rfl (by decide) ?_
      refine r_aload_n hC 0 d_Mrow_74 rfl rfl ?_
      refine r_getS hC 5 4 164 fl_M16 (by exact hV.k) d_Mrow_75 rfl rfl (by exact (hV.rf 164 (by decide))) ?_
      refine r_iload_n hC 1 d_Mrow_78 rfl rfl ?_
      refine r_iald hC (i) (hV.ak 164 (by decide)) rfl (by rw [hV.al 164 (by decide)]; exact (show i < mLn 164 from (by show i < 301; omega))) (by rw [hV.al 164 (by decide)]; decide) d_Mrow_79 (hV.el 164 (by decide) (i)) ?_
      exact r_iret hC d_Mrow_80 (Nat.le_refl _) (Nat.le_refl _) ⟨_, rfl, hr.2.2.1, hO1, f1⟩
    · refine r_tableIn hC 81 d_Mrow_20 (by decide) (by decide) rfl (by decide) ?_
      refine r_aload_n hC 0 d_Mrow_81 rfl rfl ?_
      refine r_getS hC 5 5 165 fl_M19 (by exact hV.k) d_Mrow_82 rfl rfl (by exact (hV.rf 165 (by decide))) ?_
      refine r_iload_n hC 1 d_Mrow_85 rfl rfl ?_
      refine r_iald hC (i) (hV.ak 165 (by decide)) rfl (by rw [hV.al 165 (by decide)]; exact (show i < mLn 165 from (by show i < 301; omega))) (by rw [hV.al 165 (by decide)]; decide) d_Mrow_86 (hV.el 165 (by decide) (i)) ?_
      exact r_iret hC d_Mrow_87 (Nat.le_refl _) (Nat.le_refl _) ⟨_, rfl, hr.2.2.2.1, hO1, f1⟩
    · refine r_tableIn hC 88 d_Mrow_20 (by decide) (by decide) rfl (by decide) ?_
      refine r_aload_n hC 0 d_Mrow_88 rfl rfl ?_
      refine r_getS hC 5 6 166 fl_M22 (by exact hV.k) d_Mrow_89 rfl rfl (by exact (hV.rf 166 (by decide))) ?_
      refine r_iload_n hC 1 d_Mrow_92 rfl rfl ?_
      refine r_iald hC (i) (hV.ak 166 (by decide)) rfl (by rw [hV.al 166 (by decide)]; exact (show i < mLn 166 from (by show i < 301; omega))) (by rw [hV.al 166 (by decide)]; decide) d_Mrow_93 (hV.el 166 (by decide) (i)) ?_
      exact r_iret hC d_Mrow_94 (Nat.le_refl _) (Nat.le_refl _) ⟨_, rfl, hr.2.2.2.2.1, hO1, f1⟩
    · refine r_tableIn hC 95 d_Mrow_20 (by decide) (by decide) rfl (by decide) ?_
      refine r_aload_n hC 0 d_Mrow_95 rfl rfl ?_
      refine r_getS hC 5 7 167 fl_M25 (by exact hV.k) d_Mrow_96 rfl rfl (by exact (hV.rf 167 (by decide))) ?_
      refine r_iload_n hC 1 d_Mrow_99 rfl rfl ?_
      refine r_iald hC (i) (hV.ak 167 (by decide)) rfl (by rw [hV.al 167 (by decide)]; exact (show i < mLn 167 from (by show i < 301; omega))) (by rw [hV.al 167 (by decide)]; decide) d_Mrow_100 (hV.el 167 (by decide) (i)) ?_
      exact r_iret hC d_Mrow_101 (Nat.le_refl _) (Nat.le_refl _) ⟨_, rfl, hr.2.2.2.2.2, hO1, f1⟩
    · refine r_tableOut hC 102 d_Mrow_20 hy (by decide) ?_
      refine r_iconst hC (-1) d_Mrow_102 (by decide) ?_
      exact r_iret hC d_Mrow_103 (Nat.le_refl _) (Nat.le_refl _) ⟨_, rfl, by unfold rowF; rw [if_neg y0, if_neg y1, if_neg y2, if_neg y3, if_neg y4, if_neg y5], hO1, f1⟩
  · have ea : aRow G x y = -1 := by unfold aRow; rw [e]
    rw [e, ea]
    refine r_if_ne hC 19 d_Mrow_14 (by decide) (fun z => absurd rfl z) (fun _ => ?_)
    refine r_iconst hC (-1) d_Mrow_17 (by decide) ?_
    exact r_iret hC d_Mrow_18 (Nat.le_refl _) (Nat.le_refl _) ⟨_, rfl, rfl, hO1, f1⟩
theorem c_Msee (l : Launch) (Θ : Glob) (M : Mem) (Y : Nat) (ar : Nat → Nat) (G : GS) (hG : GI G) (hO : MO M Y ar G) (x y : Int32) : Ct l Θ y_Msee 4 0 0 [.ref Y, .int x, .int y] M (pI fun r N => r = (aSee G x y).1 ∧ MO N Y ar (aSee G x y).2 ∧ Fr (MZ M) M N) := by
  obtain ⟨V, I0, hV0, hM0, hB0⟩ := hO
  have hn300 := hG.1.1
  have hob := hG.2.1
  refine Ct.start (cc := b_Msee) (nL := 3) (ret := (some .int)) [some (.ref Y), some (.int x), some (.int y)] mi_Msee.1 (by decide +kernel) (by intro v hv; simp at hv; rcases hv with rfl | rfl | rfl <;> rfl) (by simp) rfl (fun p e s m args below meth c hC => ?_)
  refine r_aload_n hC 0 d_Msee_0 rfl rfl ?_
  refine r_iconst hC 0 d_Msee_1 (by decide) ?_
  refine r_putI hC 5 0 160 fl_M78 rfl (by exact hV0.k) d_Msee_2 rfl rfl rfl rfl ?_
  obtain ⟨hV, f1⟩ := hV0.si 160 (by decide) 0
  generalize hIe : va_up I0 160 0 = I at hV
  have hM : MG V I G := hM0.cg (fun _ _ _ => rfl) (by rw [← hIe]; exact ⟨va_up_ne _ _ (by omega), va_up_ne _ _ (by omega)⟩)
  have hB : I 172 = -1 ∨ ∃ k, k < 4 ∧ I 172 = nI k ∧ BV V G k := by rw [← hIe, va_up_ne _ _ (by omega)]; exact hB0
  have hO1 : MO (sI M 160 Y 0) Y ar G := ⟨V, I, hV, hM, hB⟩
  generalize sI M 160 Y 0 = M1 at hV f1 hO1 ⊢
  have hi1 : I 161 = nI (qN G) := hM.1.1
  have ho1 : I 168 = nI (qO G) := hM.2.1
  clear hV0 hM0 hB0 hIe
  have no : aSee G x y = (-1, G) → Gj p l e (rmo 4 0 0) s m args below meth c Θ M1 [some (.ref Y), some (.int x), some (.int y)] 0 0 (Fn below args s Θ 0 0 (pI fun r N => r = (aSee G x y).1 ∧ MO N Y ar (aSee G x y).2 ∧ Fr (MZ M) M N)) 33 [] := by
    intro hz
    rw [hz]
    refine r_iconst hC (-1) d_Msee_33 (by decide) ?_
    exact r_iret hC d_Msee_34 (Nat.le_refl _) (Nat.le_refl _) ⟨_, rfl, rfl, hO1, f1⟩
  refine r_iload_n hC 1 d_Msee_5 rfl rfl ?_
  refine r_cSi hC [.int x] rfl (c_MisNode l Θ M1 x) mi_MisNode lk_M152 in_MisNode rfl (Nat.le_of_ble_eq_true rfl) ⟨Nat.le_of_ble_eq_true rfl, Nat.le_of_ble_eq_true rfl⟩ ⟨Nat.le_of_ble_eq_true rfl, Nat.le_of_ble_eq_true rfl⟩ d_Msee_6 (fun r M2 h2 => ?_)
  obtain ⟨rfl, rfl⟩ := h2
  rcases ix_cases 4 x (by omega) with ⟨k, hk, rfl, ex⟩ | ⟨-, ex⟩
  · rw [ex]
    refine r_if_eq hC 33 d_Msee_9 (by decide) (fun z => absurd z i10) (fun _ => ?_)
    refine r_iload_n hC 2 d_Msee_12 rfl rfl ?_
    refine r_iconst hC 1 d_Msee_13 (by decide) ?_
    refine r_aload_n hC 0 d_Msee_14 rfl rfl ?_
    refine r_getI hC 5 1 161 fl_M81 (by exact hV.k) d_Msee_15 rfl rfl (by exact (hV.fi 161 (by decide))) ?_
    rw [hi1]
    refine r_cSi hC [.int y, .int 1, .int (nI (qN G))] rfl (c_Mwithin l Θ M2 y 1 (nI (qN G))) mi_Mwithin lk_M148 in_Mwithin rfl (Nat.le_of_ble_eq_true rfl) ⟨Nat.le_of_ble_eq_true rfl, Nat.le_of_ble_eq_true rfl⟩ ⟨Nat.le_of_ble_eq_true rfl, Nat.le_of_ble_eq_true rfl⟩ d_Msee_18 (fun r M3 h3 => ?_)
    obtain ⟨rfl, rfl⟩ := h3
    rw [wi_rx (by omega)]
    rcases rx_cases (qN G) y (by omega) with ⟨i, hi1', hin, rfl, er⟩ | ⟨-, er⟩
    · rw [er]
      have ea : aSee G (nI k) (nI i) = if vK (qD G k) i = true then (-1, G) else (nI (vO (lrn (qR G) (qD G k) i)), gLrn G k i) := by unfold aSee; rw [ex, er]
      refine r_if_eq hC 33 d_Msee_21 (by decide) (fun z => absurd z i10) (fun _ => ?_)
      refine r_aload_n hC 0 d_Msee_24 rfl rfl ?_
      refine r_iload_n hC 1 d_Msee_25 rfl rfl ?_
      refine r_iload_n hC 2 d_Msee_26 rfl rfl ?_
      refine r_cVi hC [.int (nI k), .int (nI i)] rfl (c_MknowsRow l Θ M3 Y ar V I hV k i hk (by omega) (vK (qD G k) i) (hM.1.2.2.2.1 k i hk (by omega))) mi_MknowsRow lk_M84 in_MknowsRow (ci := 5) rfl rfl (by exact hV.k) rfl (Nat.le_of_ble_eq_true rfl) ⟨Nat.le_of_ble_eq_true rfl, Nat.le_of_ble_eq_true rfl⟩ ⟨Nat.le_of_ble_eq_true rfl, Nat.le_of_ble_eq_true rfl⟩ d_Msee_27 (fun r M4 h4 => ?_)
      obtain ⟨rfl, rfl⟩ := h4
      refine r_if_eq hC 35 d_Msee_30 (by decide) (fun z => ?_) (fun z => no (by rw [ea, if_pos (b2i_ne z)]))
      have hkf := b2i_eq z
      rw [ea, if_neg (by rw [hkf]; decide)]
      have hvm : vM (qD G k) < qN G := by rw [(hG.2.2.2.2.1 k hk).2]; exact knC_lt hi1' hin hkf
      refine r_aload_n hC 0 d_Msee_35 rfl rfl ?_
      refine r_iload_n hC 1 d_Msee_36 rfl rfl ?_
      refine r_iload_n hC 2 d_Msee_37 rfl rfl ?_
      refine r_cVv hC [.int (nI k), .int (nI i)] rfl (c_Mlearn l Θ M4 Y ar V I hV G hM hG.1 k hk (hG.2.2.1 k hk) hvm i hi1' hin hkf) mi_Mlearn lk_M144 in_Mlearn (ci := 5) rfl rfl (by exact hV.k) rfl (Nat.le_of_ble_eq_true rfl) ⟨Nat.le_of_ble_eq_true rfl, Nat.le_of_ble_eq_true rfl⟩ ⟨Nat.le_of_ble_eq_true rfl, Nat.le_of_ble_eq_true rfl⟩ d_Msee_38 (fun M5 h5 => ?_)
      obtain ⟨V5, I5, hV5, hM5, hb5, hi5, -, f5⟩ := h5
      have hc5 := (hM5.2.2 k hk).2
      have hdk : qD (gLrn G k i) k = lrn (qR G) (qD G k) i := va_up_self _ _ _
      rw [hdk] at hc5
      refine r_aload_n hC 0 d_Msee_41 rfl rfl ?_
      refine r_getS hC 5 11 171 fl_M39 (by exact hV5.k) d_Msee_42 rfl rfl (by exact (hV5.rf 171 (by decide))) ?_
      refine r_iload_n hC 1 d_Msee_45 rfl rfl ?_
      refine r_iald hC (k) (hV5.ak 171 (by decide)) rfl (by rw [hV5.al 171 (by decide)]; exact (show k < mLn 171 from (by show k < 4; omega))) (by rw [hV5.al 171 (by decide)]; decide) d_Msee_46 (hV5.el 171 (by decide) (k)) ?_
      rw [hc5]
      exact r_iret hC d_Msee_47 (Nat.le_refl _) (Nat.le_refl _) ⟨_, rfl, rfl, ⟨V5, I5, hV5, hM5, Or.inl hb5⟩, f1.trans f5 (MZ.old f1)⟩
    · rw [er]
      refine r_if_eq hC 33 d_Msee_21 (by decide) (fun _ => no (by unfold aSee; rw [ex, er])) (fun z => absurd rfl z)
  · rw [ex]
    refine r_if_eq hC 33 d_Msee_9 (by decide) (fun _ => no (by unfold aSee; rw [ex])) (fun z => absurd rfl z)
theorem c_Mmake (l : Launch) (Θ : Glob) (M : Mem) (Y : Nat) (ar : Nat → Nat) (G : GS) (hG : GI G) (hO : MO M Y ar G) (x : Int32) : Ct l Θ y_Mmake 5 0 0 [.ref Y, .int x] M (pI fun r N => r = (aMake G x).1 ∧ MO N Y ar (aMake G x).2 ∧ Fr (MZ M) M N) := by
  obtain ⟨V, I0, hV0, hM0, hB0⟩ := hO
  have hn300 := hG.1.1
  have hob := hG.2.1
  refine Ct.start (cc := b_Mmake) (nL := 3) (ret := (some .int)) [some (.ref Y), some (.int x), none] mi_Mmake.1 (by decide +kernel) (by intro v hv; simp at hv; rcases hv with rfl | rfl <;> rfl) (by simp) rfl (fun p e s m args below meth c hC => ?_)
  refine r_aload_n hC 0 d_Mmake_0 rfl rfl ?_
  refine r_iconst hC 0 d_Mmake_1 (by decide) ?_
  refine r_putI hC 5 0 160 fl_M78 rfl (by exact hV0.k) d_Mmake_2 rfl rfl rfl rfl ?_
  obtain ⟨hV, f1⟩ := hV0.si 160 (by decide) 0
  generalize hIe : va_up I0 160 0 = I at hV
  have hM : MG V I G := hM0.cg (fun _ _ _ => rfl) (by rw [← hIe]; exact ⟨va_up_ne _ _ (by omega), va_up_ne _ _ (by omega)⟩)
  have hB : I 172 = -1 ∨ ∃ k, k < 4 ∧ I 172 = nI k ∧ BV V G k := by rw [← hIe, va_up_ne _ _ (by omega)]; exact hB0
  have hO1 : MO (sI M 160 Y 0) Y ar G := ⟨V, I, hV, hM, hB⟩
  generalize sI M 160 Y 0 = M1 at hV f1 hO1 ⊢
  have hi1 : I 161 = nI (qN G) := hM.1.1
  have ho1 : I 168 = nI (qO G) := hM.2.1
  clear hV0 hM0 hB0 hIe
  have no : aMake G x = (-1, G) → Gj p l e (rmo 5 0 0) s m args below meth c Θ M1 [some (.ref Y), some (.int x), none] 0 0 (Fn below args s Θ 0 0 (pI fun r N => r = (aMake G x).1 ∧ MO N Y ar (aMake G x).2 ∧ Fr (MZ M) M N)) 31 [] := by
    intro hz
    rw [hz]
    refine r_iconst hC (-1) d_Mmake_31 (by decide) ?_
    exact r_iret hC d_Mmake_32 (Nat.le_refl _) (Nat.le_refl _) ⟨_, rfl, rfl, hO1, f1⟩
  refine r_iload_n hC 1 d_Mmake_5 rfl rfl ?_
  refine r_cSi hC [.int x] rfl (c_MisNode l Θ M1 x) mi_MisNode lk_M152 in_MisNode rfl (Nat.le_of_ble_eq_true rfl) ⟨Nat.le_of_ble_eq_true rfl, Nat.le_of_ble_eq_true rfl⟩ ⟨Nat.le_of_ble_eq_true rfl, Nat.le_of_ble_eq_true rfl⟩ d_Mmake_6 (fun r M2 h2 => ?_)
  obtain ⟨rfl, rfl⟩ := h2
  rcases ix_cases 4 x (by omega) with ⟨k, hk, rfl, ex⟩ | ⟨-, ex⟩
  · rw [ex]
    have ea : aMake G (nI k) = if qO G = 40 ∨ qN G = 300 then (-1, G) else (nI (qO G), gAddO G k 0 (qO G) none none (qO G + 1)) := by unfold aMake; rw [ex]
    refine r_if_eq hC 31 d_Mmake_9 (by decide) (fun z => absurd z i10) (fun _ => ?_)
    refine r_aload_n hC 0 d_Mmake_12 rfl rfl ?_
    refine r_getI hC 5 8 168 fl_M28 (by exact hV.k) d_Mmake_13 rfl rfl (by exact (hV.fi 168 (by decide))) ?_
    rw [ho1]
    refine r_bipush hC 40 d_Mmake_16 (by decide) ?_
    refine r_icmp_eq hC 31 d_Mmake_18 (by decide) (fun z => no (by rw [ea, if_pos (Or.inl ((nI_eq (b := 40) (by omega) (by omega)).mp z))])) (fun z => ?_)
    have ho40 : qO G ≠ 40 := fun q => z (by rw [q]; rfl)
    refine r_aload_n hC 0 d_Mmake_21 rfl rfl ?_
    refine r_getI hC 5 1 161 fl_M81 (by exact hV.k) d_Mmake_22 rfl rfl (by exact (hV.fi 161 (by decide))) ?_
    rw [hi1]
    refine r_sipush hC 300 d_Mmake_25 (by decide) ?_
    refine r_icmp_ne hC 33 d_Mmake_28 (by decide) (fun z2 => ?_) (fun z2 => no (by rw [ea, if_pos (Or.inr ((nI_eq (b := 300) (by omega) (by omega)).mp z2))]))
    have hn3 : qN G ≠ 300 := fun q => z2 (by rw [q]; rfl)
    rw [ea, if_neg (fun q => q.elim ho40 hn3)]
    have hnew : rNew G k 0 (qO G) none none (qO G + 1) := ⟨by omega, fun _ => ⟨by omega, by omega, (fun q => by omega), (fun q e => by cases e), (fun q e => by cases e)⟩, (fun q => by omega), Or.inl ⟨rfl, rfl, rfl, by omega⟩⟩
    refine r_aload_n hC 0 d_Mmake_33 rfl rfl ?_
    refine r_dup hC d_Mmake_34 rfl ?_
    refine r_getI hC 5 8 168 fl_M28 (by exact hV.k) d_Mmake_35 rfl rfl (by exact (hV.fi 168 (by decide))) ?_
    rw [ho1]
    refine r_iconst hC 1 d_Mmake_38 (by decide) ?_
    refine r_iadd hC (nI (qO G + 1)) d_Mmake_39 (nI_1 _) ?_
    refine r_putI hC 5 8 168 fl_M28 rfl (by exact hV.k) d_Mmake_40 rfl rfl rfl rfl ?_
    obtain ⟨hV3, f3⟩ := hV.si 168 (by decide) (nI (qO G + 1))
    have hM3 : MG V (va_up I 168 (nI (qO G + 1))) (qN G, qR G, qO G + 1, qD G) := ⟨hM.1.cg (fun _ _ _ => rfl) (va_up_ne _ _ (by omega)), va_up_self _ _ _, hM.2.2⟩
    generalize sI M2 168 Y (nI (qO G + 1)) = M3 at hV3 f3 ⊢
    have o3 : va_up I 168 (nI (qO G + 1)) 168 = nI (qO G + 1) := va_up_self _ _ _
    refine r_aload_n hC 0 d_Mmake_43 rfl rfl ?_
    refine r_iload_n hC 1 d_Mmake_44 rfl rfl ?_
    refine r_iconst hC 0 d_Mmake_45 (by decide) ?_
    refine r_aload_n hC 0 d_Mmake_46 rfl rfl ?_
    refine r_getI hC 5 8 168 fl_M28 (by exact hV3.k) d_Mmake_47 rfl rfl (by exact (hV3.fi 168 (by decide))) ?_
    rw [o3]
    refine r_iconst hC 1 d_Mmake_50 (by decide) ?_
    refine r_isub hC (nI (qO G)) d_Mmake_51 (nI_pred _) ?_
    refine r_iconst hC (-1) d_Mmake_52 (by decide) ?_
    refine r_iconst hC (-1) d_Mmake_53 (by decide) ?_
    refine r_cVi hC [.int (nI k), .int (nI 0), .int (nI (qO G)), .int (oO none), .int (oO none)] rfl (c_Madd l Θ M3 Y ar V _ hV3 G hG (qO G + 1) hM3 k 0 (qO G) none none hk (by omega) (by omega) (by omega) (hG.addR hk (by omega) hnew)) mi_Madd lk_M155 in_Madd (ci := 5) rfl rfl (by exact hV3.k) rfl (Nat.le_of_ble_eq_true rfl) ⟨Nat.le_of_ble_eq_true rfl, Nat.le_of_ble_eq_true rfl⟩ ⟨Nat.le_of_ble_eq_true rfl, Nat.le_of_ble_eq_true rfl⟩ d_Mmake_54 (fun r M4 h4 => ?_)
    obtain ⟨rfl, ⟨V4, I4, hV4, hM4, hb4, hw4⟩, f4⟩ := h4
    have F3 := f1.trans f3 (MZ.old f1)
    refine r_is2 hC d_Mmake_57 ?_
    refine r_aload_n hC 0 d_Mmake_58 rfl rfl ?_
    refine r_getS hC 5 5 165 fl_M19 (by exact hV4.k) d_Mmake_59 rfl rfl (by exact (hV4.rf 165 (by decide))) ?_
    refine r_iload_n hC 2 d_Mmake_62 rfl rfl ?_
    refine r_iald hC (qN G + 1) (hV4.ak 165 (by decide)) rfl (by rw [hV4.al 165 (by decide)]; exact (show qN G + 1 < mLn 165 from (by show qN G + 1 < 301; omega))) (by rw [hV4.al 165 (by decide)]; decide) d_Mmake_63 (hV4.el 165 (by decide) (qN G + 1)) ?_
    rw [hw4]
    exact r_iret hC d_Mmake_64 (Nat.le_refl _) (Nat.le_refl _) ⟨_, rfl, rfl, ⟨V4, I4, hV4, hM4, Or.inl hb4⟩, F3.trans f4 (MZ.old F3)⟩
  · rw [ex]
    refine r_if_eq hC 31 d_Mmake_9 (by decide) (fun _ => no (by unfold aMake; rw [ex])) (fun z => absurd rfl z)
