theorem c_Mtotal (l : Launch) (Θ : Glob) (M : Mem) (Y : Nat) (ar : Nat → Nat) (G : GS) (hG : GI G) (hO : MO M Y ar G) (x : Int32) : Ct l Θ y_Mtotal 8 0 0 [.ref Y, .int x] M (pI fun r N => r = aTot G x ∧ MO N Y ar G ∧ Fr (MZ M) M N) := by
  obtain ⟨V, I0, hV0, hM0, hB0⟩ := hO
  have hn300 := hG.1.1
  have hob := hG.2.1
  refine Ct.start (cc := b_Mtotal) (nL := 3) (ret := (some .int)) [some (.ref Y), some (.int x), none] mi_Mtotal.1 (by decide +kernel) (by intro v hv; simp at hv; rcases hv with rfl | rfl <;> rfl) (by simp) rfl (fun p e s m args below meth c hC => ?_)
  refine r_aload_n hC 0 d_Mtotal_0 rfl rfl ?_
  refine r_iconst hC 0 d_Mtotal_1 (by decide) ?_
  refine r_putI hC 5 0 160 fl_M78 rfl (by exact hV0.k) d_Mtotal_2 rfl rfl rfl rfl ?_
  obtain ⟨hV, f1⟩ := hV0.si 160 (by decide) 0
  generalize hIe : va_up I0 160 0 = I at hV
  have hM : MG V I G := hM0.cg (fun _ _ _ => rfl) (by rw [← hIe]; exact ⟨va_up_ne _ _ (by omega), va_up_ne _ _ (by omega)⟩)
  have hB : I 172 = -1 ∨ ∃ k, k < 4 ∧ I 172 = nI k ∧ BV V G k := by rw [← hIe, va_up_ne _ _ (by omega)]; exact hB0
  have hO1 : MO (sI M 160 Y 0) Y ar G := ⟨V, I, hV, hM, hB⟩
  generalize sI M 160 Y 0 = M1 at hV f1 hO1 ⊢
  have hi1 : I 161 = nI (qN G) := hM.1.1
  have ho1 : I 168 = nI (qO G) := hM.2.1
  clear hV0 hM0 hB0 hIe
  have no : ∀ v : Int32, aTot G x = -1 → Gj p l e (rmo 8 0 0) s m args below meth c Θ M1 [some (.ref Y), some (.int x), some (.int v)] 0 0 (Fn below args s Θ 0 0 (pI fun r N => r = aTot G x ∧ MO N Y ar G ∧ Fr (MZ M) M N)) 46 [] := by
    intro v hz
    rw [hz]
    refine r_iconst hC (-1) d_Mtotal_46 (by decide) ?_
    exact r_iret hC d_Mtotal_47 (Nat.le_refl _) (Nat.le_refl _) ⟨_, rfl, rfl, hO1, f1⟩
  have mid : ∀ v : Int32, (x = 0 → aTot G x = nI (qN G)) → (x = 1 → aTot G x = nI (qO G)) → (x ≠ 0 → x ≠ 1 → Gj p l e (rmo 8 0 0) s m args below meth c Θ M1 [some (.ref Y), some (.int x), some (.int v)] 0 0 (Fn below args s Θ 0 0 (pI fun r N => r = aTot G x ∧ MO N Y ar G ∧ Fr (MZ M) M N)) 29 []) → Gj p l e (rmo 8 0 0) s m args below meth c Θ M1 [some (.ref Y), some (.int x), some (.int v)] 0 0 (Fn below args s Θ 0 0 (pI fun r N => r = aTot G x ∧ MO N Y ar G ∧ Fr (MZ M) M N)) 10 [] := by
    intro v h0 h1 h2
    refine r_iload_n hC 1 d_Mtotal_10 rfl rfl ?_
    refine r_if_ne hC 19 d_Mtotal_11 (by decide) (fun z => ?_) (fun z => ?_)
    · skip
      refine r_iload_n hC 1 d_Mtotal_19 rfl rfl ?_
      refine r_iconst hC 1 d_Mtotal_20 (by decide) ?_
      refine r_icmp_ne hC 29 d_Mtotal_21 (by decide) (fun z2 => h2 z z2) (fun z2 => ?_)
      rw [h1 z2]
      refine r_aload_n hC 0 d_Mtotal_24 rfl rfl ?_
      refine r_getI hC 5 8 168 fl_M28 (by exact hV.k) d_Mtotal_25 rfl rfl (by exact (hV.fi 168 (by decide))) ?_
      rw [ho1]
      exact r_iret hC d_Mtotal_28 (Nat.le_refl _) (Nat.le_refl _) ⟨_, rfl, rfl, hO1, f1⟩
    · rw [h0 z]
      refine r_aload_n hC 0 d_Mtotal_14 rfl rfl ?_
      refine r_getI hC 5 1 161 fl_M81 (by exact hV.k) d_Mtotal_15 rfl rfl (by exact (hV.fi 161 (by decide))) ?_
      rw [hi1]
      exact r_iret hC d_Mtotal_18 (Nat.le_refl _) (Nat.le_refl _) ⟨_, rfl, rfl, hO1, f1⟩
  rcases ix_cases 50 x (by omega) with ⟨j, hj, rfl, e⟩ | ⟨hx, e⟩
  · have ea : aTot G (nI j) = if j = 0 then nI (qN G) else if j = 1 then nI (qO G) else if 10 ≤ j ∧ j % 10 < 4 then ttF G (j / 10) (j % 10) else -1 := by unfold aTot; rw [e]
    refine r_iload_n hC 1 d_Mtotal_5 rfl rfl ?_
    refine r_bipush hC 10 d_Mtotal_6 (by decide) ?_
    refine r_irem hC (nI (j % 10)) d_Mtotal_8 (by decide) (pk_rem (d := 10) (by omega) (by omega) (by omega)) ?_
    refine r_is2 hC d_Mtotal_9 ?_
    refine mid _ (fun q => by rw [ea, if_pos ((nI_eq (b := 0) (by omega) (by omega)).mp q)]) (fun q => by have := (nI_eq (b := 1) (by omega) (by omega)).mp q; rw [ea, if_neg (by omega), if_pos this]) (fun q0 q1 => ?_)
    have j0 : j ≠ 0 := fun w => q0 (by rw [w]; rfl)
    have j1 : j ≠ 1 := fun w => q1 (by rw [w]; rfl)
    rw [if_neg j0, if_neg j1] at ea
    refine r_iload_n hC 1 d_Mtotal_29 rfl rfl ?_
    refine r_bipush hC 10 d_Mtotal_30 (by decide) ?_
    refine r_icmp_lt hC 46 d_Mtotal_32 (by decide) (fun z => no _ (by rw [ea, if_neg (fun w => absurd z (nI_nlt (b := 10) w.1 (by omega)))])) (fun z => ?_)
    have h10 : 10 ≤ j := by
      rcases Nat.lt_or_ge j 10 with w | w
      · exact absurd (nI_lt (b := 10) w (by omega)) z
      · exact w
    refine r_iload_n hC 1 d_Mtotal_35 rfl rfl ?_
    refine r_bipush hC 43 d_Mtotal_36 (by decide) ?_
    refine r_icmp_gt hC 46 d_Mtotal_38 (by decide) (fun z2 => no _ (by rw [ea, if_neg (fun w => by have := (nI_ltI (a := 43) (by omega) (by omega)).mp z2; omega)])) (fun z2 => ?_)
    have h43 : j ≤ 43 := by
      rcases Nat.lt_or_ge 43 j with w | w
      · exact absurd (nI_lt (a := 43) w (by omega)) z2
      · exact w
    refine r_iload_n hC 2 d_Mtotal_41 rfl rfl ?_
    refine r_iconst hC 3 d_Mtotal_42 (by decide) ?_
    refine r_icmp_le hC 48 d_Mtotal_43 (by decide) (fun z3 => ?_) (fun z3 => no _ (by rw [ea, if_neg (fun w => z3 (nI_le (b := 3) (by omega) (by omega)))]))
    have hk : j % 10 < 4 := by have := (nI_leI (b := 3) (by omega) (by omega)).mp z3; omega
    rw [ea, if_pos ⟨h10, hk⟩]
    refine r_iload_n hC 1 d_Mtotal_48 rfl rfl ?_
    refine r_bipush hC 10 d_Mtotal_49 (by decide) ?_
    refine r_idiv hC (nI (j / 10)) d_Mtotal_51 (by decide) (pk_div (d := 10) (by omega) (by omega) (by omega)) ?_
    rcases (show j / 10 = 1 ∨ j / 10 = 2 ∨ j / 10 = 3 ∨ j / 10 = 4 by omega) with q | q | q | q
    · rw [q]
      refine r_tableIn hC 80 d_Mtotal_52 (by decide) (by decide) rfl (by decide) ?_
      refine r_aload_n hC 0 d_Mtotal_80 rfl rfl ?_
      refine r_iload_n hC 2 d_Mtotal_81 rfl rfl ?_
      refine r_cVi hC [.int (nI (j % 10))] rfl (c_MknownRows l Θ M1 Y ar V I hV (qN G) (qR G) _ hM.1 (j % 10) hk) mi_MknownRows lk_M171 in_MknownRows (ci := 5) rfl rfl (by exact hV.k) rfl (Nat.le_of_ble_eq_true rfl) ⟨Nat.le_of_ble_eq_true rfl, Nat.le_of_ble_eq_true rfl⟩ ⟨Nat.le_of_ble_eq_true rfl, Nat.le_of_ble_eq_true rfl⟩ d_Mtotal_82 (fun r M3 h3 => ?_)
      obtain ⟨rfl, rfl⟩ := h3
      exact r_iret hC d_Mtotal_85 (Nat.le_refl _) (Nat.le_refl _) ⟨_, rfl, by show nI (knC (vK (qD G (j % 10))) (qN G)) = nI (vM (qD G (j % 10))); rw [(hG.2.2.2.2.1 _ hk).2]; rfl, hO1, f1⟩
    · rw [q]
      refine r_tableIn hC 86 d_Mtotal_52 (by decide) (by decide) rfl (by decide) ?_
      refine r_aload_n hC 0 d_Mtotal_86 rfl rfl ?_
      refine r_getS hC 5 10 170 fl_M36 (by exact hV.k) d_Mtotal_87 rfl rfl (by exact (hV.rf 170 (by decide))) ?_
      refine r_iload_n hC 2 d_Mtotal_90 rfl rfl ?_
      refine r_iald hC (j % 10) (hV.ak 170 (by decide)) rfl (by rw [hV.al 170 (by decide)]; exact (show j % 10 < mLn 170 from (by show j % 10 < 4; omega))) (by rw [hV.al 170 (by decide)]; decide) d_Mtotal_91 (hV.el 170 (by decide) (j % 10)) ?_
      exact r_iret hC d_Mtotal_92 (Nat.le_refl _) (Nat.le_refl _) ⟨_, rfl, (hM.2.2 _ hk).1, hO1, f1⟩
    · rw [q]
      refine r_tableIn hC 93 d_Mtotal_52 (by decide) (by decide) rfl (by decide) ?_
      refine r_aload_n hC 0 d_Mtotal_93 rfl rfl ?_
      refine r_iload_n hC 2 d_Mtotal_94 rfl rfl ?_
      refine r_cVi hC [.int (nI (j % 10))] rfl (c_MthereOf l Θ M1 Y ar V I hV G hG hM hB (j % 10) hk) mi_MthereOf lk_M174 in_MthereOf (ci := 5) rfl rfl (by exact hV.k) rfl (Nat.le_of_ble_eq_true rfl) ⟨Nat.le_of_ble_eq_true rfl, Nat.le_of_ble_eq_true rfl⟩ ⟨Nat.le_of_ble_eq_true rfl, Nat.le_of_ble_eq_true rfl⟩ d_Mtotal_95 (fun r M3 h3 => ?_)
      obtain ⟨rfl, hO3, f3⟩ := h3
      exact r_iret hC d_Mtotal_98 (Nat.le_refl _) (Nat.le_refl _) ⟨_, rfl, rfl, hO3, f1.trans f3 (MZ.old f1)⟩
    · rw [q]
      refine r_tableOut hC 99 d_Mtotal_52 (by decide) (by decide) ?_
      refine r_aload_n hC 0 d_Mtotal_99 rfl rfl ?_
      refine r_iload_n hC 2 d_Mtotal_100 rfl rfl ?_
      refine r_cVi hC [.int (nI (j % 10))] rfl (c_MbinOf l Θ M1 Y ar V I hV G hG hM hB (j % 10) hk) mi_MbinOf lk_M177 in_MbinOf (ci := 5) rfl rfl (by exact hV.k) rfl (Nat.le_of_ble_eq_true rfl) ⟨Nat.le_of_ble_eq_true rfl, Nat.le_of_ble_eq_true rfl⟩ ⟨Nat.le_of_ble_eq_true rfl, Nat.le_of_ble_eq_true rfl⟩ d_Mtotal_101 (fun r M3 h3 => ?_)
      obtain ⟨rfl, hO3, f3⟩ := h3
      exact r_iret hC d_Mtotal_104 (Nat.le_refl _) (Nat.le_refl _) ⟨_, rfl, rfl, hO3, f1.trans f3 (MZ.old f1)⟩
  · have ea : aTot G x = -1 := by unfold aTot; rw [e]
    have x0 : x = 0 → False := fun q => by rw [q] at hx; revert hx; decide
    have x1 : x = 1 → False := fun q => by rw [q] at hx; revert hx; decide
    refine r_iload_n hC 1 d_Mtotal_5 rfl rfl ?_
    refine r_bipush hC 10 d_Mtotal_6 (by decide) ?_
    refine r_irem hC _ d_Mtotal_8 (by decide) rfl ?_
    refine r_is2 hC d_Mtotal_9 ?_
    refine mid _ (fun q => (x0 q).elim) (fun q => (x1 q).elim) (fun _ _ => ?_)
    refine r_iload_n hC 1 d_Mtotal_29 rfl rfl ?_
    refine r_bipush hC 10 d_Mtotal_30 (by decide) ?_
    refine r_icmp_lt hC 46 d_Mtotal_32 (by decide) (fun z => no _ ea) (fun z => ?_)
    have hx50 : nI 50 ≤ x := by
      rcases hx with q | q
      · exact absurd (Int32.lt_trans q (by decide)) z
      · exact q
    refine r_iload_n hC 1 d_Mtotal_35 rfl rfl ?_
    refine r_bipush hC 43 d_Mtotal_36 (by decide) ?_
    refine r_icmp_gt hC 46 d_Mtotal_38 (by decide) (fun z => no _ ea) (fun z2 => ?_)
    refine absurd ?_ z2
    rw [Int32.le_iff_toInt_le, nI_toInt (by omega)] at hx50
    rw [Int32.lt_iff_toInt_lt]
    have : (43 : Int32).toInt = 43 := by decide
    show (43 : Int32).toInt < x.toInt
    omega
theorem c_Mchild (l : Launch) (Θ : Glob) (M : Mem) (Y : Nat) (ar : Nat → Nat) (G : GS) (hG : GI G) (hO : MO M Y ar G) (x y z : Int32) : Ct l Θ y_Mchild 8 0 0 [.ref Y, .int x, .int y, .int z] M (pI fun r N => r = aChd G x y z ∧ MO N Y ar G ∧ Fr (MZ M) M N) := by
  obtain ⟨V, I0, hV0, hM0, hB0⟩ := hO
  have hn300 := hG.1.1
  have hob := hG.2.1
  refine Ct.start (cc := b_Mchild) (nL := 5) (ret := (some .int)) [some (.ref Y), some (.int x), some (.int y), some (.int z), none] mi_Mchild.1 (by decide +kernel) (by intro v hv; simp at hv; rcases hv with rfl | rfl | rfl | rfl <;> rfl) (by simp) rfl (fun p e s m args below meth c hC => ?_)
  refine r_aload_n hC 0 d_Mchild_0 rfl rfl ?_
  refine r_iconst hC 0 d_Mchild_1 (by decide) ?_
  refine r_putI hC 5 0 160 fl_M78 rfl (by exact hV0.k) d_Mchild_2 rfl rfl rfl rfl ?_
  obtain ⟨hV, f1⟩ := hV0.si 160 (by decide) 0
  generalize hIe : va_up I0 160 0 = I at hV
  have hM : MG V I G := hM0.cg (fun _ _ _ => rfl) (by rw [← hIe]; exact ⟨va_up_ne _ _ (by omega), va_up_ne _ _ (by omega)⟩)
  have hB : I 172 = -1 ∨ ∃ k, k < 4 ∧ I 172 = nI k ∧ BV V G k := by rw [← hIe, va_up_ne _ _ (by omega)]; exact hB0
  have hO1 : MO (sI M 160 Y 0) Y ar G := ⟨V, I, hV, hM, hB⟩
  generalize sI M 160 Y 0 = M1 at hV f1 hO1 ⊢
  have hi1 : I 161 = nI (qN G) := hM.1.1
  have ho1 : I 168 = nI (qO G) := hM.2.1
  clear hV0 hM0 hB0 hIe
  have no : ∀ M2 : Mem, MO M2 Y ar G → Fr (MZ M) M M2 → aChd G x y z = -1 → Gj p l e (rmo 8 0 0) s m args below meth c Θ M2 [some (.ref Y), some (.int x), some (.int y), some (.int z), none] 0 0 (Fn below args s Θ 0 0 (pI fun r N => r = aChd G x y z ∧ MO N Y ar G ∧ Fr (MZ M) M N)) 26 [] := by
    intro M2 hO2 f2 hz
    rw [hz]
    refine r_iconst hC (-1) d_Mchild_26 (by decide) ?_
    exact r_iret hC d_Mchild_27 (Nat.le_refl _) (Nat.le_refl _) ⟨_, rfl, rfl, hO2, f2⟩
  refine r_iload_n hC 1 d_Mchild_5 rfl rfl ?_
  refine r_cSi hC [.int x] rfl (c_MisNode l Θ M1 x) mi_MisNode lk_M152 in_MisNode rfl (Nat.le_of_ble_eq_true rfl) ⟨Nat.le_of_ble_eq_true rfl, Nat.le_of_ble_eq_true rfl⟩ ⟨Nat.le_of_ble_eq_true rfl, Nat.le_of_ble_eq_true rfl⟩ d_Mchild_6 (fun r M2 h2 => ?_)
  obtain ⟨rfl, rfl⟩ := h2
  rcases ix_cases 4 x (by omega) with ⟨k, hk, rfl, ex⟩ | ⟨-, ex⟩
  · rw [ex]
    have hW := hG.wf hk
    have ea : aChd G (nI k) y z = if y = -1 then chF (tr G k) 40 z else (match plF G (nI k) y with
      | none => -1
      | some q => chF (tr G k) q.2 z) := by
      unfold aChd
      rw [ex] <;> rfl
    refine r_if_eq hC 26 d_Mchild_9 (by decide) (fun z => absurd z i10) (fun _ => ?_)
    have fin : ∀ (M3 : Mem) (V3 : Nat → Nat → Int32) (I3 : Nat → Int32) (o : Nat), MV M3 Y ar V3 I3 → MG V3 I3 G → (I3 172 = -1 ∨ ∃ k, k < 4 ∧ I3 172 = nI k ∧ BV V3 G k) → Fr (MZ M) M M3 → ((y = -1 ∧ o = 40) ∨ (y ≠ -1 ∧ y = nI o ∧ o < 40)) → aChd G (nI k) y z = chF (tr G k) o z → Gj p l e (rmo 8 0 0) s m args below meth c Θ M3 [some (.ref Y), some (.int (nI k)), some (.int y), some (.int z), none] 0 0 (Fn below args s Θ 0 0 (pI fun r N => r = aChd G (nI k) y z ∧ MO N Y ar G ∧ Fr (MZ M) M N)) 28 [] := by
      intro M3 V3 I3 o hV3 hM3 hB3 f3 hyo hans
      have ho40 : o ≤ 40 := by omega
      rw [hans]
      refine r_aload_n hC 0 d_Mchild_28 rfl rfl ?_
      refine r_iload_n hC 1 d_Mchild_29 rfl rfl ?_
      refine r_cVv hC [.int (nI k)] rfl (c_Mbuild l Θ M3 Y ar V3 I3 hV3 G hG hM3 hB3 k hk) mi_Mbuild lk_M162 in_Mbuild (ci := 5) rfl rfl (by exact hV3.k) rfl (Nat.le_of_ble_eq_true rfl) ⟨Nat.le_of_ble_eq_true rfl, Nat.le_of_ble_eq_true rfl⟩ ⟨Nat.le_of_ble_eq_true rfl, Nat.le_of_ble_eq_true rfl⟩ d_Mchild_30 (fun M4 h4 => ?_)
      obtain ⟨V4, I4, hV4, hM4, hb4, hB4, f4⟩ := h4
      have hO4 : MO M4 Y ar G := ⟨V4, I4, hV4, hM4, Or.inr ⟨k, hk, hb4, hB4⟩⟩
      have F4 := f3.trans f4 (MZ.old f3)
      have hkl := hW.klen o
      have hkv := hB4.1.2.2.2.1 o ho40
      have rest : Gj p l e (rmo 8 0 0) s m args below meth c Θ M4 [some (.ref Y), some (.int (nI k)), some (.int y), some (.int z), none] 0 0 (Fn below args s Θ 0 0 (pI fun r N => r = chF (tr G k) o z ∧ MO N Y ar G ∧ Fr (MZ M) M N)) 44 [.int (nI o)] := by
        refine r_is4 hC d_Mchild_44 ?_
        refine r_iload_n hC 3 d_Mchild_46 rfl rfl ?_
        refine r_iconst hC 0 d_Mchild_47 (by decide) ?_
        refine r_aload_n hC 0 d_Mchild_48 rfl rfl ?_
        refine r_getS hC 5 16 176 fl_M54 (by exact hV4.k) d_Mchild_49 rfl rfl (by exact (hV4.rf 176 (by decide))) ?_
        refine r_iload hC 4 d_Mchild_52 rfl ?_
        refine r_iald hC (o) (hV4.ak 176 (by decide)) rfl (by rw [hV4.al 176 (by decide)]; exact (show o < mLn 176 from (by show o < 41; omega))) (by rw [hV4.al 176 (by decide)]; decide) d_Mchild_54 (hV4.el 176 (by decide) (o)) ?_
        rw [hkv]
        cases hlen : (ki (tr G k) o).length with
        | zero =>
          have ec : chF (tr G k) o z = -1 := by unfold chF; rw [hlen, ix_none (by rcases pk_ix z (n := 0) (by omega) with h | h | ⟨j, hj, -⟩; exact Or.inl h; exact Or.inr h; omega)]
          rw [ec]
          refine r_iconst hC 1 d_Mchild_55 (by decide) ?_
          refine r_isub hC (-1) d_Mchild_56 (by decide) ?_
          refine r_cSi hC [.int z, .int 0, .int (-1)] rfl (c_Mwithin l Θ M4 z 0 (-1)) mi_Mwithin lk_M148 in_Mwithin rfl (Nat.le_of_ble_eq_true rfl) ⟨Nat.le_of_ble_eq_true rfl, Nat.le_of_ble_eq_true rfl⟩ ⟨Nat.le_of_ble_eq_true rfl, Nat.le_of_ble_eq_true rfl⟩ d_Mchild_57 (fun r M5 h5 => ?_)
          obtain ⟨rfl, rfl⟩ := h5
          have hf : (decide (0 ≤ z) && decide (z ≤ (-1 : Int32))) = false := by
            by_cases h : 0 ≤ z
            · rw [decide_eq_false (p := z ≤ (-1 : Int32)) (fun w => absurd (Int32.le_trans h w) (by decide)), Bool.and_false]
            · rw [decide_eq_false h, Bool.false_and]
          rw [hf]
          refine r_if_eq hC 78 d_Mchild_60 (by decide) (fun _ => ?_) (fun w => absurd rfl w)
          refine r_iconst hC (-1) d_Mchild_78 (by decide) ?_
          exact r_iret hC d_Mchild_79 (Nat.le_refl _) (Nat.le_refl _) ⟨_, rfl, rfl, hO4, F4⟩
        | succ ln =>
          refine r_iconst hC 1 d_Mchild_55 (by decide) ?_
          refine r_isub hC (nI ln) d_Mchild_56 (nI_pred _) ?_
          refine r_cSi hC [.int z, .int 0, .int (nI ln)] rfl (c_Mwithin l Θ M4 z 0 (nI ln)) mi_Mwithin lk_M148 in_Mwithin rfl (Nat.le_of_ble_eq_true rfl) ⟨Nat.le_of_ble_eq_true rfl, Nat.le_of_ble_eq_true rfl⟩ ⟨Nat.le_of_ble_eq_true rfl, Nat.le_of_ble_eq_true rfl⟩ d_Mchild_57 (fun r M5 h5 => ?_)
          obtain ⟨rfl, rfl⟩ := h5
          rw [wi_ix (m := ln) (by omega)]
          rcases ix_cases (ln + 1) z (by omega) with ⟨i, hi, rfl, ei⟩ | ⟨-, ei⟩
          · have ec : chF (tr G k) o (nI i) = nI ((ki (tr G k) o)[i]?.getD 0) := by unfold chF; rw [hlen, ei]
            obtain ⟨y2, hy2, hy3⟩ := get_some (l := ki (tr G k) o) (i := i) (by omega)
            have hv := hB4.1.2.2.2.2 o i y2 ho40 hy2
            rw [ec, hy2, ei]
            refine r_if_eq hC 78 d_Mchild_60 (by decide) (fun w => absurd w i10) (fun _ => ?_)
            refine r_aload_n hC 0 d_Mchild_63 rfl rfl ?_
            refine r_getS hC 5 17 177 fl_M57 (by exact hV4.k) d_Mchild_64 rfl rfl (by exact (hV4.rf 177 (by decide))) ?_
            refine r_bipush hC 40 d_Mchild_67 (by decide) ?_
            refine r_iload hC 4 d_Mchild_69 rfl ?_
            refine r_imul hC (nI (40 * o)) d_Mchild_71 (pk_mul 40 o) ?_
            refine r_iload_n hC 3 d_Mchild_72 rfl rfl ?_
            refine r_iadd hC (nI (40 * o + i)) d_Mchild_73 (nI_add _ _) ?_
            refine r_iald hC (40 * o + i) (hV4.ak 177 (by decide)) rfl (by rw [hV4.al 177 (by decide)]; exact (show 40 * o + i < mLn 177 from (by show 40 * o + i < 1640; omega))) (by rw [hV4.al 177 (by decide)]; decide) d_Mchild_74 (hV4.el 177 (by decide) (40 * o + i)) ?_
            rw [hv]
            refine r_goto hC 79 d_Mchild_75 (by decide) ?_
            exact r_iret hC d_Mchild_79 (Nat.le_refl _) (Nat.le_refl _) ⟨_, rfl, rfl, hO4, F4⟩
          · have ec : chF (tr G k) o z = -1 := by unfold chF; rw [hlen, ei]
            rw [ec, ei]
            refine r_if_eq hC 78 d_Mchild_60 (by decide) (fun _ => ?_) (fun w => absurd rfl w)
            refine r_iconst hC (-1) d_Mchild_78 (by decide) ?_
            exact r_iret hC d_Mchild_79 (Nat.le_refl _) (Nat.le_refl _) ⟨_, rfl, rfl, hO4, F4⟩
      refine r_iload_n hC 2 d_Mchild_33 rfl rfl ?_
      refine r_iconst hC (-1) d_Mchild_34 (by decide) ?_
      refine r_icmp_ne hC 43 d_Mchild_35 (by decide) (fun w => ?_) (fun w => ?_)
      · rcases hyo with ⟨h, -⟩ | ⟨-, h, -⟩
        · exact absurd h w
        · subst h
          refine r_iload_n hC 2 d_Mchild_43 rfl rfl ?_
          exact rest
      · rcases hyo with ⟨-, h⟩ | ⟨h, -⟩
        · subst h
          refine r_bipush hC 40 d_Mchild_38 (by decide) ?_
          refine r_goto hC 44 d_Mchild_40 (by decide) ?_
          exact rest
        · exact absurd w h
    refine r_iload_n hC 2 d_Mchild_12 rfl rfl ?_
    refine r_iconst hC (-1) d_Mchild_13 (by decide) ?_
    refine r_icmp_eq hC 28 d_Mchild_14 (by decide) (fun w => fin M2 V I 40 hV hM hB f1 (Or.inl ⟨w, rfl⟩) (by rw [ea, if_pos w])) (fun w => ?_)
    rw [if_neg w] at ea
    refine r_aload_n hC 0 d_Mchild_17 rfl rfl ?_
    refine r_iload_n hC 1 d_Mchild_18 rfl rfl ?_
    refine r_iload_n hC 2 d_Mchild_19 rfl rfl ?_
    refine r_cVi hC [.int (nI k), .int y] rfl (c_MisIn l Θ M2 Y ar G hG V I ⟨hV, hM, hB⟩ (nI k) y) mi_MisIn lk_M165 in_MisIn (ci := 5) rfl rfl (by exact hV.k) rfl (Nat.le_of_ble_eq_true rfl) ⟨Nat.le_of_ble_eq_true rfl, Nat.le_of_ble_eq_true rfl⟩ ⟨Nat.le_of_ble_eq_true rfl, Nat.le_of_ble_eq_true rfl⟩ d_Mchild_20 (fun r M3 h3 => ?_)
    obtain ⟨rfl, ⟨V3, I3, hQ3, hbv⟩, f3⟩ := h3
    have F3 := f1.trans f3 (MZ.old f1)
    rcases plF_cases G (nI k) y with ⟨k2, o, hk2, ho, ek, rfl, hth, ep⟩ | ep
    · rw [ep] at ea ⊢
      refine r_if_ne hC 28 d_Mchild_23 (by decide) (fun _ => fin M3 V3 I3 o hQ3.1 hQ3.2.1 hQ3.2.2 F3 (Or.inr ⟨w, rfl, ho⟩) ea) (fun q => absurd q i10)
    · rw [ep] at ea ⊢
      refine r_if_ne hC 28 d_Mchild_23 (by decide) (fun q => absurd rfl q) (fun _ => no M3 hQ3.mo F3 ea)
  · rw [ex]
    refine r_if_eq hC 26 d_Mchild_9 (by decide) (fun _ => no M2 hO1 f1 (by unfold aChd; rw [ex])) (fun w => absurd rfl w)
