theorem c_Mjudged (l : Launch) (Θ : Glob) (M : Mem) (Y : Nat) (ar : Nat → Nat) (G : GS) (hG : GI G) (hO : MO M Y ar G) (x y : Int32) : Ct l Θ y_Mjudged 8 0 0 [.ref Y, .int x, .int y] M (pI fun r N => r = aJud G x y ∧ MO N Y ar G ∧ Fr (MZ M) M N) := by
  obtain ⟨V, I0, hV0, hM0, hB0⟩ := hO
  have hn300 := hG.1.1
  have hob := hG.2.1
  refine Ct.start (cc := b_Mjudged) (nL := 3) (ret := (some .int)) [some (.ref Y), some (.int x), some (.int y)] mi_Mjudged.1 (by decide +kernel) (by intro v hv; simp at hv; rcases hv with rfl | rfl | rfl <;> rfl) (by simp) rfl (fun p e s m args below meth c hC => ?_)
  refine r_aload_n hC 0 d_Mjudged_0 rfl rfl ?_
  refine r_iconst hC 0 d_Mjudged_1 (by decide) ?_
  refine r_putI hC 5 0 160 fl_M78 rfl (by exact hV0.k) d_Mjudged_2 rfl rfl rfl rfl ?_
  obtain ⟨hV, f1⟩ := hV0.si 160 (by decide) 0
  generalize hIe : va_up I0 160 0 = I at hV
  have hM : MG V I G := hM0.cg (fun _ _ _ => rfl) (by rw [← hIe]; exact ⟨va_up_ne _ _ (by omega), va_up_ne _ _ (by omega)⟩)
  have hB : I 172 = -1 ∨ ∃ k, k < 4 ∧ I 172 = nI k ∧ BV V G k := by rw [← hIe, va_up_ne _ _ (by omega)]; exact hB0
  have hO1 : MO (sI M 160 Y 0) Y ar G := ⟨V, I, hV, hM, hB⟩
  generalize sI M 160 Y 0 = M1 at hV f1 hO1 ⊢
  have hi1 : I 161 = nI (qN G) := hM.1.1
  have ho1 : I 168 = nI (qO G) := hM.2.1
  clear hV0 hM0 hB0 hIe
  have no : aJud G x y = -1 → Gj p l e (rmo 8 0 0) s m args below meth c Θ M1 [some (.ref Y), some (.int x), some (.int y)] 0 0 (Fn below args s Θ 0 0 (pI fun r N => r = aJud G x y ∧ MO N Y ar G ∧ Fr (MZ M) M N)) 24 [] := by
    intro hz
    rw [hz]
    refine r_iconst hC (-1) d_Mjudged_24 (by decide) ?_
    exact r_iret hC d_Mjudged_25 (Nat.le_refl _) (Nat.le_refl _) ⟨_, rfl, rfl, hO1, f1⟩
  refine r_iload_n hC 1 d_Mjudged_5 rfl rfl ?_
  refine r_cSi hC [.int x] rfl (c_MisNode l Θ M1 x) mi_MisNode lk_M152 in_MisNode rfl (Nat.le_of_ble_eq_true rfl) ⟨Nat.le_of_ble_eq_true rfl, Nat.le_of_ble_eq_true rfl⟩ ⟨Nat.le_of_ble_eq_true rfl, Nat.le_of_ble_eq_true rfl⟩ d_Mjudged_6 (fun r M2 h2 => ?_)
  obtain ⟨rfl, rfl⟩ := h2
  rcases ix_cases 4 x (by omega) with ⟨k, hk, rfl, ex⟩ | ⟨-, ex⟩
  · rw [ex]
    refine r_if_eq hC 24 d_Mjudged_9 (by decide) (fun z => absurd z i10) (fun _ => ?_)
    refine r_iload_n hC 2 d_Mjudged_12 rfl rfl ?_
    refine r_iconst hC 1 d_Mjudged_13 (by decide) ?_
    refine r_aload_n hC 0 d_Mjudged_14 rfl rfl ?_
    refine r_getI hC 5 1 161 fl_M81 (by exact hV.k) d_Mjudged_15 rfl rfl (by exact (hV.fi 161 (by decide))) ?_
    rw [hi1]
    refine r_cSi hC [.int y, .int 1, .int (nI (qN G))] rfl (c_Mwithin l Θ M2 y 1 (nI (qN G))) mi_Mwithin lk_M148 in_Mwithin rfl (Nat.le_of_ble_eq_true rfl) ⟨Nat.le_of_ble_eq_true rfl, Nat.le_of_ble_eq_true rfl⟩ ⟨Nat.le_of_ble_eq_true rfl, Nat.le_of_ble_eq_true rfl⟩ d_Mjudged_18 (fun r M3 h3 => ?_)
    obtain ⟨rfl, rfl⟩ := h3
    rw [wi_rx (by omega)]
    rcases rx_cases (qN G) y (by omega) with ⟨i, hi1', hin, rfl, er⟩ | ⟨-, er⟩
    · rw [er]
      have ea : aJud G (nI k) (nI i) = nI (hwF (qR G) (qD G k) i) := by unfold aJud; rw [ex, er]
      rw [ea]
      refine r_if_ne hC 26 d_Mjudged_21 (by decide) (fun _ => ?_) (fun z => absurd z i10)
      refine r_aload_n hC 0 d_Mjudged_26 rfl rfl ?_
      refine r_iload_n hC 1 d_Mjudged_27 rfl rfl ?_
      refine r_cVv hC [.int (nI k)] rfl (c_Mbuild l Θ M3 Y ar V I hV G hG hM hB k hk) mi_Mbuild lk_M162 in_Mbuild (ci := 5) rfl rfl (by exact hV.k) rfl (Nat.le_of_ble_eq_true rfl) ⟨Nat.le_of_ble_eq_true rfl, Nat.le_of_ble_eq_true rfl⟩ ⟨Nat.le_of_ble_eq_true rfl, Nat.le_of_ble_eq_true rfl⟩ d_Mjudged_28 (fun M4 h4 => ?_)
      obtain ⟨V4, I4, hV4, hM4, hb4, hB4, f4⟩ := h4
      refine r_aload_n hC 0 d_Mjudged_31 rfl rfl ?_
      refine r_getS hC 5 18 178 fl_M60 (by exact hV4.k) d_Mjudged_32 rfl rfl (by exact (hV4.rf 178 (by decide))) ?_
      refine r_iload_n hC 2 d_Mjudged_35 rfl rfl ?_
      refine r_iald hC (i) (hV4.ak 178 (by decide)) rfl (by rw [hV4.al 178 (by decide)]; exact (show i < mLn 178 from (by show i < 301; omega))) (by rw [hV4.al 178 (by decide)]; decide) d_Mjudged_36 (hV4.el 178 (by decide) (i)) ?_
      rw [hB4.2 i hi1' hin]
      exact r_iret hC d_Mjudged_37 (Nat.le_refl _) (Nat.le_refl _) ⟨_, rfl, rfl, ⟨V4, I4, hV4, hM4, Or.inr ⟨k, hk, hb4, hB4⟩⟩, f1.trans f4 (MZ.old f1)⟩
    · rw [er]
      refine r_if_ne hC 26 d_Mjudged_21 (by decide) (fun z => absurd rfl z) (fun _ => no (by unfold aJud; rw [ex, er]))
  · rw [ex]
    refine r_if_eq hC 24 d_Mjudged_9 (by decide) (fun _ => no (by unfold aJud; rw [ex])) (fun z => absurd rfl z)
theorem c_MknownRows (l : Launch) (Θ : Glob) (M : Mem) (Y : Nat) (ar : Nat → Nat) (V : Nat → Nat → Int32) (I : Nat → Int32) (hV : MV M Y ar V I) (n : Nat) (R : Nat → RowT) (K : Nat → Nat → Bool) (hM : MR V I n R K) (kk : Nat) (hk : kk < 4) : Ct l Θ y_MknownRows 2 0 0 [.ref Y, .int (nI kk)] M (pI fun v N => v = nI (knC (K kk) n) ∧ N = M) := by
  obtain ⟨hi1, hn3, hrw, hkn, hbd⟩ := hM
  refine Ct.start (cc := b_MknownRows) (nL := 4) (ret := (some .int)) [some (.ref Y), some (.int (nI kk)), none, none] mi_MknownRows.1 (by decide +kernel) (by intro v hv; simp at hv; rcases hv with rfl | rfl <;> rfl) (by simp) rfl (fun p e s m args below meth c hC => ?_)
  have loop : ∀ (c2 i : Nat), i + c2 = n → Gj p l e (rmo 2 0 0) s m args below meth c Θ M [some (.ref Y), some (.int (nI kk)), some (.int (nI (knC (K kk) i))), some (.int (nI (i + 1)))] 0 0 (Fn below args s Θ 0 0 (pI fun v N => v = nI (knC (K kk) n) ∧ N = M)) 4 [] := by
    intro c2
    induction c2 with
    | zero =>
      intro i hi
      have hi : i = n := hi
      subst hi
      refine r_iload_n hC 3 d_MknownRows_4 rfl rfl ?_
      refine r_aload_n hC 0 d_MknownRows_5 rfl rfl ?_
      refine r_getI hC 5 1 161 fl_M81 (by exact hV.k) d_MknownRows_6 rfl rfl (by exact (hV.fi 161 (by decide))) ?_
      rw [hi1]
      refine r_icmp_gt hC 35 d_MknownRows_9 (by decide) (fun _ => ?_) (fun z => absurd (nI_lt (by omega) (by omega)) z)
      refine r_iload_n hC 2 d_MknownRows_35 rfl rfl ?_
      exact r_iret hC d_MknownRows_36 (Nat.le_refl _) (Nat.le_refl _) ⟨_, rfl, rfl, rfl⟩
    | succ c2 ih =>
      intro i hi
      have hks := knC_s (K kk) i
      have ih2 := ih (i + 1) (by omega)
      rw [hks] at ih2
      refine r_iload_n hC 3 d_MknownRows_4 rfl rfl ?_
      refine r_aload_n hC 0 d_MknownRows_5 rfl rfl ?_
      refine r_getI hC 5 1 161 fl_M81 (by exact hV.k) d_MknownRows_6 rfl rfl (by exact (hV.fi 161 (by decide))) ?_
      rw [hi1]
      refine r_icmp_gt hC 35 d_MknownRows_9 (by decide) (fun z => absurd z (nI_nlt (by omega) (by omega))) (fun _ => ?_)
      refine r_iload_n hC 2 d_MknownRows_12 rfl rfl ?_
      refine r_aload_n hC 0 d_MknownRows_13 rfl rfl ?_
      refine r_iload_n hC 1 d_MknownRows_14 rfl rfl ?_
      refine r_iload_n hC 3 d_MknownRows_15 rfl rfl ?_
      refine r_cVi hC [.int (nI kk), .int (nI (i + 1))] rfl (c_MknowsRow l Θ M Y ar V I hV kk (i + 1) hk (by omega) (K kk (i + 1)) (hkn kk (i + 1) hk (by omega))) mi_MknowsRow lk_M84 in_MknowsRow (ci := 5) rfl rfl (by exact hV.k) rfl (Nat.le_of_ble_eq_true rfl) ⟨Nat.le_of_ble_eq_true rfl, Nat.le_of_ble_eq_true rfl⟩ ⟨Nat.le_of_ble_eq_true rfl, Nat.le_of_ble_eq_true rfl⟩ d_MknownRows_16 (fun v M1 h1 => ?_)
      obtain ⟨rfl, rfl⟩ := h1
      refine r_if_eq hC 26 d_MknownRows_19 (by decide) (fun z => ?_) (fun z => ?_)
      · rw [b2i_eq z] at ih2
        have ih2 := ih2
        refine r_iconst hC 0 d_MknownRows_26 (by decide) ?_
        refine r_iadd hC (nI (knC (K kk) i + 0)) d_MknownRows_27 (nI_add (knC (K kk) i) 0) ?_
        refine r_is2 hC d_MknownRows_28 ?_
        refine r_ii3 hC (nI (i + 1 + 1)) d_MknownRows_29 (nI_1 _) ?_
        refine r_goto hC 4 d_MknownRows_32 (by decide) ?_
        exact ih2
      · rw [b2i_ne z] at ih2
        refine r_iconst hC 1 d_MknownRows_22 (by decide) ?_
        refine r_goto hC 27 d_MknownRows_23 (by decide) ?_
        refine r_iadd hC (nI (knC (K kk) i + 1)) d_MknownRows_27 (nI_add (knC (K kk) i) 1) ?_
        refine r_is2 hC d_MknownRows_28 ?_
        refine r_ii3 hC (nI (i + 1 + 1)) d_MknownRows_29 (nI_1 _) ?_
        refine r_goto hC 4 d_MknownRows_32 (by decide) ?_
        exact ih2
  refine r_iconst hC 0 d_MknownRows_0 (by decide) ?_
  refine r_is2 hC d_MknownRows_1 ?_
  refine r_iconst hC 1 d_MknownRows_2 (by decide) ?_
  refine r_is3 hC d_MknownRows_3 ?_
  exact loop n 0 (by omega)
theorem c_MbinOf (l : Launch) (Θ : Glob) (M : Mem) (Y : Nat) (ar : Nat → Nat) (V : Nat → Nat → Int32) (I : Nat → Int32) (hV : MV M Y ar V I) (G : GS) (hG : GI G) (hM : MG V I G) (hB : I 172 = -1 ∨ ∃ k, k < 4 ∧ I 172 = nI k ∧ BV V G k) (kk : Nat) (hk : kk < 4) : Ct l Θ y_MbinOf 7 0 0 [.ref Y, .int (nI kk)] M (pI fun v N => v = nI (ki (tr G kk) 40).length ∧ MO N Y ar G ∧ Fr (MZ M) M N) := by
  refine Ct.start (cc := b_MbinOf) (nL := 2) (ret := (some .int)) [some (.ref Y), some (.int (nI kk))] mi_MbinOf.1 (by decide +kernel) (by intro v hv; simp at hv; rcases hv with rfl | rfl <;> rfl) (by simp) rfl (fun p e s m args below meth c hC => ?_)
  refine r_aload_n hC 0 d_MbinOf_0 rfl rfl ?_
  refine r_iload_n hC 1 d_MbinOf_1 rfl rfl ?_
  refine r_cVv hC [.int (nI kk)] rfl (c_Mbuild l Θ M Y ar V I hV G hG hM hB kk hk) mi_Mbuild lk_M162 in_Mbuild (ci := 5) rfl rfl (by exact hV.k) rfl (Nat.le_of_ble_eq_true rfl) ⟨Nat.le_of_ble_eq_true rfl, Nat.le_of_ble_eq_true rfl⟩ ⟨Nat.le_of_ble_eq_true rfl, Nat.le_of_ble_eq_true rfl⟩ d_MbinOf_2 (fun M4 h4 => ?_)
  obtain ⟨V4, I4, hV4, hM4, hb4, hB4, f4⟩ := h4
  refine r_aload_n hC 0 d_MbinOf_5 rfl rfl ?_
  refine r_getS hC 5 16 176 fl_M54 (by exact hV4.k) d_MbinOf_6 rfl rfl (by exact (hV4.rf 176 (by decide))) ?_
  refine r_bipush hC 40 d_MbinOf_9 (by decide) ?_
  refine r_iald hC (40) (hV4.ak 176 (by decide)) rfl (by rw [hV4.al 176 (by decide)]; exact (show 40 < mLn 176 from (by show 40 < 41; omega))) (by rw [hV4.al 176 (by decide)]; decide) d_MbinOf_11 (hV4.el 176 (by decide) (40)) ?_
  rw [hB4.1.2.2.2.1 40 (by omega)]
  exact r_iret hC d_MbinOf_12 (Nat.le_refl _) (Nat.le_refl _) ⟨_, rfl, rfl, ⟨V4, I4, hV4, hM4, Or.inr ⟨kk, hk, hb4, hB4⟩⟩, f4⟩
theorem c_MthereOf (l : Launch) (Θ : Glob) (M : Mem) (Y : Nat) (ar : Nat → Nat) (V : Nat → Nat → Int32) (I : Nat → Int32) (hV : MV M Y ar V I) (G : GS) (hG : GI G) (hM : MG V I G) (hB : I 172 = -1 ∨ ∃ k, k < 4 ∧ I 172 = nI k ∧ BV V G k) (kk : Nat) (hk : kk < 4) : Ct l Θ y_MthereOf 7 0 0 [.ref Y, .int (nI kk)] M (pI fun v N => v = nI (thN (tr G kk) 40) ∧ MO N Y ar G ∧ Fr (MZ M) M N) := by
  refine Ct.start (cc := b_MthereOf) (nL := 4) (ret := (some .int)) [some (.ref Y), some (.int (nI kk)), none, none] mi_MthereOf.1 (by decide +kernel) (by intro v hv; simp at hv; rcases hv with rfl | rfl <;> rfl) (by simp) rfl (fun p e s m args below meth c hC => ?_)
  refine r_aload_n hC 0 d_MthereOf_0 rfl rfl ?_
  refine r_iload_n hC 1 d_MthereOf_1 rfl rfl ?_
  refine r_cVv hC [.int (nI kk)] rfl (c_Mbuild l Θ M Y ar V I hV G hG hM hB kk hk) mi_Mbuild lk_M162 in_Mbuild (ci := 5) rfl rfl (by exact hV.k) rfl (Nat.le_of_ble_eq_true rfl) ⟨Nat.le_of_ble_eq_true rfl, Nat.le_of_ble_eq_true rfl⟩ ⟨Nat.le_of_ble_eq_true rfl, Nat.le_of_ble_eq_true rfl⟩ d_MthereOf_2 (fun M4 h4 => ?_)
  obtain ⟨V4, I4, hV4, hM4, hb4, hB4, f4⟩ := h4
  have hO4 : MO M4 Y ar G := ⟨V4, I4, hV4, hM4, Or.inr ⟨kk, hk, hb4, hB4⟩⟩
  have hT := hB4.1.1
  generalize tr G kk = S at hT ⊢
  have loop : ∀ (c2 i : Nat), i + c2 = 40 → Gj p l e (rmo 7 0 0) s m args below meth c Θ M4 [some (.ref Y), some (.int (nI kk)), some (.int (nI (thN S i))), some (.int (nI i))] 0 0 (Fn below args s Θ 0 0 (pI fun v N => v = nI (thN S 40) ∧ MO N Y ar G ∧ Fr (MZ M) M N)) 9 [] := by
    intro c2
    induction c2 with
    | zero =>
      intro i hi
      have hi : i = 40 := hi
      subst hi
      refine r_iload_n hC 3 d_MthereOf_9 rfl rfl ?_
      refine r_bipush hC 40 d_MthereOf_10 (by decide) ?_
      refine r_icmp_ge hC 38 d_MthereOf_12 (by decide) (fun _ => ?_) (fun z => absurd (Int32.le_refl _) z)
      refine r_iload_n hC 2 d_MthereOf_38 rfl rfl ?_
      exact r_iret hC d_MthereOf_39 (Nat.le_refl _) (Nat.le_refl _) ⟨_, rfl, rfl, hO4, f4⟩
    | succ c2 ih =>
      intro i hi
      have ths := thN_s S i
      have ih2 := ih (i + 1) (by omega)
      rw [ths] at ih2
      refine r_iload_n hC 3 d_MthereOf_9 rfl rfl ?_
      refine r_bipush hC 40 d_MthereOf_10 (by decide) ?_
      refine r_icmp_ge hC 38 d_MthereOf_12 (by decide) (fun z => absurd z (nI_ge (b := 40) (by omega) (by omega))) (fun _ => ?_)
      refine r_iload_n hC 2 d_MthereOf_15 rfl rfl ?_
      refine r_aload_n hC 0 d_MthereOf_16 rfl rfl ?_
      refine r_getS hC 5 13 173 fl_M45 (by exact hV4.k) d_MthereOf_17 rfl rfl (by exact (hV4.rf 173 (by decide))) ?_
      refine r_iload_n hC 3 d_MthereOf_20 rfl rfl ?_
      refine r_zald hC (i) (hV4.ak 173 (by decide)) rfl (by rw [hV4.al 173 (by decide)]; exact (show i < mLn 173 from (by show i < 40; omega))) (by rw [hV4.al 173 (by decide)]; decide) d_MthereOf_21 (hV4.el 173 (by decide) (i)) ?_
      rw [hT i (by omega)]
      refine r_if_eq hC 29 d_MthereOf_22 (by decide) (fun z => ?_) (fun z => ?_)
      · rw [b2i_eq z] at ih2
        refine r_iconst hC 0 d_MthereOf_29 (by decide) ?_
        refine r_iadd hC (nI (thN S i + 0)) d_MthereOf_30 (nI_add (thN S i) 0) ?_
        refine r_is2 hC d_MthereOf_31 ?_
        refine r_ii3 hC (nI (i + 1)) d_MthereOf_32 (nI_1 _) ?_
        refine r_goto hC 9 d_MthereOf_35 (by decide) ?_
        exact ih2
      · rw [b2i_ne z] at ih2
        refine r_iconst hC 1 d_MthereOf_25 (by decide) ?_
        refine r_goto hC 30 d_MthereOf_26 (by decide) ?_
        refine r_iadd hC (nI (thN S i + 1)) d_MthereOf_30 (nI_add (thN S i) 1) ?_
        refine r_is2 hC d_MthereOf_31 ?_
        refine r_ii3 hC (nI (i + 1)) d_MthereOf_32 (nI_1 _) ?_
        refine r_goto hC 9 d_MthereOf_35 (by decide) ?_
        exact ih2
  refine r_iconst hC 0 d_MthereOf_5 (by decide) ?_
  refine r_is2 hC d_MthereOf_6 ?_
  refine r_iconst hC 0 d_MthereOf_7 (by decide) ?_
  refine r_is3 hC d_MthereOf_8 ?_
  exact loop 40 0 rfl
