theorem c_Mremove (l : Launch) (Θ : Glob) (M : Mem) (Y : Nat) (ar : Nat → Nat) (G : GS) (hG : GI G) (hO : MO M Y ar G) (x y z : Int32) : Ct l Θ y_Mremove 5 0 0 [.ref Y, .int x, .int y, .int z] M (pI fun r N => r = (aRemo G x y z).1 ∧ MO N Y ar (aRemo G x y z).2 ∧ Fr (MZ M) M N) := by
  obtain ⟨V, I0, hV0, hM0, hB0⟩ := hO
  have hn300 := hG.1.1
  have hob := hG.2.1
  refine Ct.start (cc := b_Mremove) (nL := 4) (ret := (some .int)) [some (.ref Y), some (.int x), some (.int y), some (.int z)] mi_Mremove.1 (by decide +kernel) (by intro v hv; simp at hv; rcases hv with rfl | rfl | rfl | rfl <;> rfl) (by simp) rfl (fun p e s m args below meth c hC => ?_)
  refine r_aload_n hC 0 d_Mremove_0 rfl rfl ?_
  refine r_iconst hC 0 d_Mremove_1 (by decide) ?_
  refine r_putI hC 5 0 160 fl_M78 rfl (by exact hV0.k) d_Mremove_2 rfl rfl rfl rfl ?_
  obtain ⟨hV, f1⟩ := hV0.si 160 (by decide) 0
  generalize hIe : va_up I0 160 0 = I at hV
  have hM : MG V I G := hM0.cg (fun _ _ _ => rfl) (by rw [← hIe]; exact ⟨va_up_ne _ _ (by omega), va_up_ne _ _ (by omega)⟩)
  have hB : I 172 = -1 ∨ ∃ k, k < 4 ∧ I 172 = nI k ∧ BV V G k := by rw [← hIe, va_up_ne _ _ (by omega)]; exact hB0
  have hO1 : MO (sI M 160 Y 0) Y ar G := ⟨V, I, hV, hM, hB⟩
  generalize sI M 160 Y 0 = M1 at hV f1 hO1 ⊢
  have hi1 : I 161 = nI (qN G) := hM.1.1
  have ho1 : I 168 = nI (qO G) := hM.2.1
  clear hV0 hM0 hB0 hIe
  have no : aRemo G x y z = (-1, G) → Gj p l e (rmo 5 0 0) s m args below meth c Θ M1 [some (.ref Y), some (.int x), some (.int y), some (.int z)] 0 0 (Fn below args s Θ 0 0 (pI fun r N => r = (aRemo G x y z).1 ∧ MO N Y ar (aRemo G x y z).2 ∧ Fr (MZ M) M N)) 36 [] := by
    intro hz
    rw [hz]
    refine r_iconst hC (-1) d_Mremove_36 (by decide) ?_
    exact r_iret hC d_Mremove_37 (Nat.le_refl _) (Nat.le_refl _) ⟨_, rfl, rfl, hO1, f1⟩
  refine r_iload_n hC 1 d_Mremove_5 rfl rfl ?_
  refine r_cSi hC [.int x] rfl (c_MisNode l Θ M1 x) mi_MisNode lk_M152 in_MisNode rfl (Nat.le_of_ble_eq_true rfl) ⟨Nat.le_of_ble_eq_true rfl, Nat.le_of_ble_eq_true rfl⟩ ⟨Nat.le_of_ble_eq_true rfl, Nat.le_of_ble_eq_true rfl⟩ d_Mremove_6 (fun r M2 h2 => ?_)
  obtain ⟨rfl, rfl⟩ := h2
  rcases ix_cases 4 x (by omega) with ⟨k, hk, rfl, ex⟩ | ⟨-, ex⟩
  · rw [ex]
    refine r_if_eq hC 36 d_Mremove_9 (by decide) (fun z => absurd z i10) (fun _ => ?_)
    refine r_iload_n hC 2 d_Mremove_12 rfl rfl ?_
    refine r_iconst hC 1 d_Mremove_13 (by decide) ?_
    refine r_aload_n hC 0 d_Mremove_14 rfl rfl ?_
    refine r_getI hC 5 8 168 fl_M28 (by exact hV.k) d_Mremove_15 rfl rfl (by exact (hV.fi 168 (by decide))) ?_
    rw [ho1]
    refine r_iconst hC 1 d_Mremove_18 (by decide) ?_
    refine r_isub hC (nI (qO G - 1)) d_Mremove_19 (by rw [show (1 : Int32) = nI 1 from rfl, pk_sub (by omega)]) ?_
    refine r_cSi hC [.int y, .int 1, .int (nI (qO G - 1))] rfl (c_Mwithin l Θ M2 y 1 (nI (qO G - 1))) mi_Mwithin lk_M148 in_Mwithin rfl (Nat.le_of_ble_eq_true rfl) ⟨Nat.le_of_ble_eq_true rfl, Nat.le_of_ble_eq_true rfl⟩ ⟨Nat.le_of_ble_eq_true rfl, Nat.le_of_ble_eq_true rfl⟩ d_Mremove_20 (fun r M3 h3 => ?_)
    obtain ⟨rfl, rfl⟩ := h3
    rw [wi_rx (by omega)]
    rcases rx_cases (qO G - 1) y (by omega) with ⟨i, hi1', hin, rfl, er⟩ | ⟨-, er⟩
    · rw [er]
      have ea : aRemo G (nI k) (nI i) z = if qN G = 300 then (-1, G) else (nI (qN G + 1), gAddO G k (if z = 0 then 2 else 3) i none none (qO G)) := by unfold aRemo; rw [ex, er]
      refine r_if_eq hC 36 d_Mremove_23 (by decide) (fun z => absurd z i10) (fun _ => ?_)
      refine r_aload_n hC 0 d_Mremove_26 rfl rfl ?_
      refine r_getI hC 5 1 161 fl_M81 (by exact hV.k) d_Mremove_27 rfl rfl (by exact (hV.fi 161 (by decide))) ?_
      rw [hi1]
      refine r_sipush hC 300 d_Mremove_30 (by decide) ?_
      refine r_icmp_ne hC 38 d_Mremove_33 (by decide) (fun z2 => ?_) (fun z2 => no (by rw [ea, if_pos ((nI_eq (b := 300) (by omega) (by omega)).mp z2)]))
      have hn3 : qN G ≠ 300 := fun q => z2 (by rw [q]; rfl)
      rw [ea, if_neg hn3]
      have fin : ∀ ss : Nat, (ss = 2 ∨ ss = 3) → Gj p l e (rmo 5 0 0) s m args below meth c Θ M3 [some (.ref Y), some (.int (nI k)), some (.int (nI i)), some (.int z)] 0 0 (Fn below args s Θ 0 0 (pI fun r N => r = nI (qN G + 1) ∧ MO N Y ar (gAddO G k ss i none none (qO G)) ∧ Fr (MZ M) M N)) 49 [.int (nI ss), .int (nI k), .ref Y] := by
        intro ss hss
        have hnew : rNew G k ss i none none (qO G) := ⟨by omega, fun _ => ⟨by omega, by omega, (fun q => by omega), (fun q e => by cases e), (fun q e => by cases e)⟩, (fun q => by omega), Or.inr ⟨by omega, rfl⟩⟩
        refine r_iload_n hC 2 d_Mremove_49 rfl rfl ?_
        refine r_iconst hC (-1) d_Mremove_50 (by decide) ?_
        refine r_iconst hC (-1) d_Mremove_51 (by decide) ?_
        refine r_cVi hC [.int (nI k), .int (nI ss), .int (nI i), .int (oO none), .int (oO none)] rfl (c_Madd l Θ M3 Y ar V _ hV G hG (qO G) hM k ss i none none hk (by omega) (by omega) (by omega) (hG.addR hk (by omega) hnew)) mi_Madd lk_M155 in_Madd (ci := 5) rfl rfl (by exact hV.k) rfl (Nat.le_of_ble_eq_true rfl) ⟨Nat.le_of_ble_eq_true rfl, Nat.le_of_ble_eq_true rfl⟩ ⟨Nat.le_of_ble_eq_true rfl, Nat.le_of_ble_eq_true rfl⟩ d_Mremove_52 (fun r M4 h4 => ?_)
        obtain ⟨rfl, ⟨V4, I4, hV4, hM4, hb4, hw4⟩, f4⟩ := h4
        exact r_iret hC d_Mremove_55 (Nat.le_refl _) (Nat.le_refl _) ⟨_, rfl, rfl, ⟨V4, I4, hV4, hM4, Or.inl hb4⟩, f1.trans f4 (MZ.old f1)⟩
      refine r_aload_n hC 0 d_Mremove_38 rfl rfl ?_
      refine r_iload_n hC 1 d_Mremove_39 rfl rfl ?_
      refine r_iload_n hC 3 d_Mremove_40 rfl rfl ?_
      refine r_if_eq hC 48 d_Mremove_41 (by decide) (fun q => ?_) (fun q => ?_)
      · rw [if_pos q]
        refine r_iconst hC 2 d_Mremove_48 (by decide) ?_
        exact fin 2 (Or.inl rfl)
      · rw [if_neg q]
        refine r_iconst hC 3 d_Mremove_44 (by decide) ?_
        refine r_goto hC 49 d_Mremove_45 (by decide) ?_
        exact fin 3 (Or.inr rfl)
    · rw [er]
      refine r_if_eq hC 36 d_Mremove_23 (by decide) (fun _ => no (by unfold aRemo; rw [ex, er])) (fun z => absurd rfl z)
  · rw [ex]
    refine r_if_eq hC 36 d_Mremove_9 (by decide) (fun _ => no (by unfold aRemo; rw [ex])) (fun z => absurd rfl z)
theorem wi_bix {x : Int32} {m : Nat} (hm : m + 1 < 2 ^ 30) : (decide (-1 ≤ x) && decide (x ≤ nI m)) = (bix (m + 1) x).isSome := by
  have h6 : (-1 : Int32).toInt = -1 := by decide
  rcases bix_cases (m + 1) x (by omega) with ⟨rfl, e⟩ | ⟨j, hj, hne, rfl, e⟩ | ⟨hne, hi, e⟩
  · rw [e, decide_eq_true (Int32.le_refl _), decide_eq_true (p := (-1 : Int32) ≤ nI m) (by rw [Int32.le_iff_toInt_le, nI_toInt (by omega), h6]; omega)]; rfl
  · rw [e, decide_eq_true (p := (-1 : Int32) ≤ nI j) (by rw [Int32.le_iff_toInt_le, nI_toInt (by omega), h6]; omega), decide_eq_true (nI_le (by omega) (by omega))]; rfl
  · rw [e]
    rcases ix_cases (m + 1) x (by omega) with ⟨j, hj, rfl, e2⟩ | ⟨h, -⟩
    · rw [hi] at e2; cases e2
    · rcases h with h | h
      · rw [decide_eq_false (p := (-1 : Int32) ≤ x) (fun q => ?_)]; rfl
        have h7 : x.toInt < 0 := by rw [Int32.lt_iff_toInt_lt] at h; exact h
        rw [Int32.le_iff_toInt_le, h6] at q
        exact hne (Int32.toInt_inj.mp (by rw [h6]; omega))
      · rw [decide_eq_false (p := x ≤ nI m) (fun q => ?_), Bool.and_false]; rfl
        rw [Int32.le_iff_toInt_le, nI_toInt (by omega)] at h q
        omega
theorem c_Mmove (l : Launch) (Θ : Glob) (M : Mem) (Y : Nat) (ar : Nat → Nat) (G : GS) (hG : GI G) (hO : MO M Y ar G) (x y z v : Int32) : Ct l Θ y_Mmove 5 0 0 [.ref Y, .int x, .int y, .int z, .int v] M (pI fun r N => r = (aMove G x y z v).1 ∧ MO N Y ar (aMove G x y z v).2 ∧ Fr (MZ M) M N) := by
  obtain ⟨V, I0, hV0, hM0, hB0⟩ := hO
  have hn300 := hG.1.1
  have hob := hG.2.1
  refine Ct.start (cc := b_Mmove) (nL := 5) (ret := (some .int)) [some (.ref Y), some (.int x), some (.int y), some (.int z), some (.int v)] mi_Mmove.1 (by decide +kernel) (by intro v hv; simp at hv; rcases hv with rfl | rfl | rfl | rfl | rfl <;> rfl) (by simp) rfl (fun p e s m args below meth c hC => ?_)
  refine r_aload_n hC 0 d_Mmove_0 rfl rfl ?_
  refine r_iconst hC 0 d_Mmove_1 (by decide) ?_
  refine r_putI hC 5 0 160 fl_M78 rfl (by exact hV0.k) d_Mmove_2 rfl rfl rfl rfl ?_
  obtain ⟨hV, f1⟩ := hV0.si 160 (by decide) 0
  generalize hIe : va_up I0 160 0 = I at hV
  have hM : MG V I G := hM0.cg (fun _ _ _ => rfl) (by rw [← hIe]; exact ⟨va_up_ne _ _ (by omega), va_up_ne _ _ (by omega)⟩)
  have hB : I 172 = -1 ∨ ∃ k, k < 4 ∧ I 172 = nI k ∧ BV V G k := by rw [← hIe, va_up_ne _ _ (by omega)]; exact hB0
  have hO1 : MO (sI M 160 Y 0) Y ar G := ⟨V, I, hV, hM, hB⟩
  generalize sI M 160 Y 0 = M1 at hV f1 hO1 ⊢
  have hi1 : I 161 = nI (qN G) := hM.1.1
  have ho1 : I 168 = nI (qO G) := hM.2.1
  clear hV0 hM0 hB0 hIe
  have no : aMove G x y z v = (-1, G) → Gj p l e (rmo 5 0 0) s m args below meth c Θ M1 [some (.ref Y), some (.int x), some (.int y), some (.int z), some (.int v)] 0 0 (Fn below args s Θ 0 0 (pI fun r N => r = (aMove G x y z v).1 ∧ MO N Y ar (aMove G x y z v).2 ∧ Fr (MZ M) M N)) 65 [] := by
    intro hz
    rw [hz]
    refine r_iconst hC (-1) d_Mmove_65 (by decide) ?_
    exact r_iret hC d_Mmove_66 (Nat.le_refl _) (Nat.le_refl _) ⟨_, rfl, rfl, hO1, f1⟩
  obtain ⟨mo, hmo⟩ : ∃ mo, qO G = mo + 1 := ⟨qO G - 1, by omega⟩
  have sub1 : nI (qO G) - 1 = nI mo := by rw [hmo]; exact nI_pred _
  refine r_iload_n hC 1 d_Mmove_5 rfl rfl ?_
  refine r_cSi hC [.int x] rfl (c_MisNode l Θ M1 x) mi_MisNode lk_M152 in_MisNode rfl (Nat.le_of_ble_eq_true rfl) ⟨Nat.le_of_ble_eq_true rfl, Nat.le_of_ble_eq_true rfl⟩ ⟨Nat.le_of_ble_eq_true rfl, Nat.le_of_ble_eq_true rfl⟩ d_Mmove_6 (fun r M2 h2 => ?_)
  obtain ⟨rfl, rfl⟩ := h2
  rcases ix_cases 4 x (by omega) with ⟨k, hk, rfl, ex⟩ | ⟨-, ex⟩
  · rw [ex]
    refine r_if_eq hC 65 d_Mmove_9 (by decide) (fun z => absurd z i10) (fun _ => ?_)
    refine r_iload_n hC 2 d_Mmove_12 rfl rfl ?_
    refine r_iconst hC 1 d_Mmove_13 (by decide) ?_
    refine r_aload_n hC 0 d_Mmove_14 rfl rfl ?_
    refine r_getI hC 5 8 168 fl_M28 (by exact hV.k) d_Mmove_15 rfl rfl (by exact (hV.fi 168 (by decide))) ?_
    rw [ho1]
    refine r_iconst hC 1 d_Mmove_18 (by decide) ?_
    refine r_isub hC (nI mo) d_Mmove_19 sub1 ?_
    refine r_cSi hC [.int y, .int 1, .int (nI mo)] rfl (c_Mwithin l Θ M2 y 1 (nI mo)) mi_Mwithin lk_M148 in_Mwithin rfl (Nat.le_of_ble_eq_true rfl) ⟨Nat.le_of_ble_eq_true rfl, Nat.le_of_ble_eq_true rfl⟩ ⟨Nat.le_of_ble_eq_true rfl, Nat.le_of_ble_eq_true rfl⟩ d_Mmove_20 (fun r M3 h3 => ?_)
    obtain ⟨rfl, rfl⟩ := h3
    rw [wi_rx (by omega)]
    have hmo2 : qO G - 1 = mo := by omega
    rcases rx_cases mo y (by omega) with ⟨i, hi1', hin, rfl, er⟩ | ⟨-, er⟩
    · rw [er]
      have er' : rx (qO G - 1) (nI i) = some i := by rw [hmo2]; exact er
      refine r_if_eq hC 65 d_Mmove_23 (by decide) (fun z => absurd z i10) (fun _ => ?_)
      refine r_iload_n hC 3 d_Mmove_26 rfl rfl ?_
      refine r_iconst hC 0 d_Mmove_27 (by decide) ?_
      refine r_aload_n hC 0 d_Mmove_28 rfl rfl ?_
      refine r_getI hC 5 8 168 fl_M28 (by exact hV.k) d_Mmove_29 rfl rfl (by exact (hV.fi 168 (by decide))) ?_
      rw [ho1]
      refine r_iconst hC 1 d_Mmove_32 (by decide) ?_
      refine r_isub hC (nI mo) d_Mmove_33 sub1 ?_
      refine r_cSi hC [.int z, .int 0, .int (nI mo)] rfl (c_Mwithin l Θ M3 z 0 (nI mo)) mi_Mwithin lk_M148 in_Mwithin rfl (Nat.le_of_ble_eq_true rfl) ⟨Nat.le_of_ble_eq_true rfl, Nat.le_of_ble_eq_true rfl⟩ ⟨Nat.le_of_ble_eq_true rfl, Nat.le_of_ble_eq_true rfl⟩ d_Mmove_34 (fun r M4 h4 => ?_)
      obtain ⟨rfl, rfl⟩ := h4
      rw [wi_ix (m := mo) (by omega), ← hmo]
      rcases ix_cases (qO G) z (by omega) with ⟨t, ht, rfl, et⟩ | ⟨-, et⟩
      · rw [et]
        refine r_if_eq hC 65 d_Mmove_37 (by decide) (fun z => absurd z i10) (fun _ => ?_)
        refine r_iload hC 4 d_Mmove_40 rfl ?_
        refine r_iconst hC (-1) d_Mmove_42 (by decide) ?_
        refine r_aload_n hC 0 d_Mmove_43 rfl rfl ?_
        refine r_getI hC 5 8 168 fl_M28 (by exact hV.k) d_Mmove_44 rfl rfl (by exact (hV.fi 168 (by decide))) ?_
        rw [ho1]
        refine r_iconst hC 1 d_Mmove_47 (by decide) ?_
        refine r_isub hC (nI mo) d_Mmove_48 sub1 ?_
        refine r_cSi hC [.int v, .int (-1), .int (nI mo)] rfl (c_Mwithin l Θ M4 v (-1) (nI mo)) mi_Mwithin lk_M148 in_Mwithin rfl (Nat.le_of_ble_eq_true rfl) ⟨Nat.le_of_ble_eq_true rfl, Nat.le_of_ble_eq_true rfl⟩ ⟨Nat.le_of_ble_eq_true rfl, Nat.le_of_ble_eq_true rfl⟩ d_Mmove_49 (fun r M5 h5 => ?_)
        obtain ⟨rfl, rfl⟩ := h5
        rw [wi_bix (m := mo) (by omega), ← hmo]
        have hgo : ∀ b : Option Nat, v = oO b → bix (qO G) v = some b → (∀ q, b = some q → q < qO G) → Gj p l e (rmo 5 0 0) s m args below meth c Θ M5 [some (.ref Y), some (.int (nI k)), some (.int (nI i)), some (.int (nI t)), some (.int v)] 0 0 (Fn below args s Θ 0 0 (pI fun r N => r = (aMove G (nI k) (nI i) (nI t) v).1 ∧ MO N Y ar (aMove G (nI k) (nI i) (nI t) v).2 ∧ Fr (MZ M) M N)) 55 [] := by
          intro b hv hb hbb
          have ea : aMove G (nI k) (nI i) (nI t) v = if qN G = 300 then (-1, G) else (nI (qN G + 1), gAddO G k 1 i (some t) b (qO G)) := by
            unfold aMove
            rw [ex, er', et, hb]
          refine r_aload_n hC 0 d_Mmove_55 rfl rfl ?_
          refine r_getI hC 5 1 161 fl_M81 (by exact hV.k) d_Mmove_56 rfl rfl (by exact (hV.fi 161 (by decide))) ?_
          rw [hi1]
          refine r_sipush hC 300 d_Mmove_59 (by decide) ?_
          refine r_icmp_ne hC 67 d_Mmove_62 (by decide) (fun z2 => ?_) (fun z2 => no (by rw [ea, if_pos ((nI_eq (b := 300) (by omega) (by omega)).mp z2)]))
          have hn3 : qN G ≠ 300 := fun q => z2 (by rw [q]; rfl)
          rw [ea, if_neg hn3]
          subst hv
          have hnew : rNew G k 1 i (some t) b (qO G) := ⟨by omega, fun _ => ⟨by omega, by omega, fun _ => ⟨t, rfl⟩, (fun q e => by cases e; exact ht), hbb⟩, (fun q => by omega), Or.inr ⟨by omega, rfl⟩⟩
          refine r_aload_n hC 0 d_Mmove_67 rfl rfl ?_
          refine r_iload_n hC 1 d_Mmove_68 rfl rfl ?_
          refine r_iconst hC 1 d_Mmove_69 (by decide) ?_
          refine r_iload_n hC 2 d_Mmove_70 rfl rfl ?_
          refine r_iload_n hC 3 d_Mmove_71 rfl rfl ?_
          refine r_iload hC 4 d_Mmove_72 rfl ?_
          refine r_cVi hC [.int (nI k), .int (nI 1), .int (nI i), .int (nI t), .int (oO b)] rfl (c_Madd l Θ M5 Y ar V _ hV G hG (qO G) hM k 1 i (some t) b hk (by omega) (by omega) (by omega) (hG.addR hk (by omega) hnew)) mi_Madd lk_M155 in_Madd (ci := 5) rfl rfl (by exact hV.k) rfl (Nat.le_of_ble_eq_true rfl) ⟨Nat.le_of_ble_eq_true rfl, Nat.le_of_ble_eq_true rfl⟩ ⟨Nat.le_of_ble_eq_true rfl, Nat.le_of_ble_eq_true rfl⟩ d_Mmove_74 (fun r M6 h6 => ?_)
          obtain ⟨rfl, ⟨V4, I4, hV4, hM4, hb4, hw4⟩, f4⟩ := h6
          exact r_iret hC d_Mmove_77 (Nat.le_refl _) (Nat.le_refl _) ⟨_, rfl, rfl, ⟨V4, I4, hV4, hM4, Or.inl hb4⟩, f1.trans f4 (MZ.old f1)⟩
        rcases bix_cases (qO G) v (by omega) with ⟨rfl, hb⟩ | ⟨j, hj, hne, rfl, hb⟩ | ⟨hne, hi, hb⟩
        · rw [hb]
          refine r_if_eq hC 65 d_Mmove_52 (by decide) (fun z => absurd z i10) (fun _ => hgo none rfl hb (fun q e => by cases e))
        · rw [hb]
          refine r_if_eq hC 65 d_Mmove_52 (by decide) (fun z => absurd z i10) (fun _ => hgo (some j) rfl hb (fun q e => by cases e; exact hj))
        · rw [hb]
          refine r_if_eq hC 65 d_Mmove_52 (by decide) (fun _ => no (by unfold aMove; rw [ex, er', et, hb])) (fun z => absurd rfl z)
      · rw [et]
        refine r_if_eq hC 65 d_Mmove_37 (by decide) (fun _ => no (by unfold aMove; rw [ex, er', et])) (fun z => absurd rfl z)
    · rw [er]
      have er' : rx (qO G - 1) y = none := by rw [hmo2]; exact er
      refine r_if_eq hC 65 d_Mmove_23 (by decide) (fun _ => no (by unfold aMove; rw [ex, er'])) (fun z => absurd rfl z)
  · rw [ex]
    refine r_if_eq hC 65 d_Mmove_9 (by decide) (fun _ => no (by unfold aMove; rw [ex])) (fun z => absurd rfl z)
theorem un_own {G : GS} (hG : GI G) {k i : Nat} (hk : k < 4) (hi1 : 1 ≤ i) (hin : i ≤ qN G) (hw : rW (qR G i) = k) : dm (unK (qN G) (qR G) (vK (qD G k)) i) = unF G i := by
  have e : unK (qN G) (qR G) (vK (qD G k)) i ↔ ∃ u, 1 ≤ u ∧ u ≤ qN G ∧ rS (qR G u) = 4 ∧ rO (qR G u) = i := by
    constructor
    · rintro ⟨u, u1, u2, u3, u4, u5⟩; exact ⟨u, u1, u2, u3, u4⟩
    · rintro ⟨u, u1, u2, u3, u4⟩
      refine ⟨u, u1, u2, u3, u4, hG.2.2.2.1 k hk u u1 u2 ?_⟩
      have := (hG.1.2.2.2.1 u u1 u2 u3).2.2.2.2
      rw [u4, hw] at this
      exact this.symm
  unfold unF
  rw [propext e]
theorem c_Mundo (l : Launch) (Θ : Glob) (M : Mem) (Y : Nat) (ar : Nat → Nat) (G : GS) (hG : GI G) (hO : MO M Y ar G) (x y : Int32) : Ct l Θ y_Mundo 5 0 0 [.ref Y, .int x, .int y] M (pI fun r N => r = (aUndo G x y).1 ∧ MO N Y ar (aUndo G x y).2 ∧ Fr (MZ M) M N) := by
  obtain ⟨V, I0, hV0, hM0, hB0⟩ := hO
  have hn300 := hG.1.1
  have hob := hG.2.1
  refine Ct.start (cc := b_Mundo) (nL := 3) (ret := (some .int)) [some (.ref Y), some (.int x), some (.int y)] mi_Mundo.1 (by decide +kernel) (by intro v hv; simp at hv; rcases hv with rfl | rfl | rfl <;> rfl) (by simp) rfl (fun p e s m args below meth c hC => ?_)
  refine r_aload_n hC 0 d_Mundo_0 rfl rfl ?_
  refine r_iconst hC 0 d_Mundo_1 (by decide) ?_
  refine r_putI hC 5 0 160 fl_M78 rfl (by exact hV0.k) d_Mundo_2 rfl rfl rfl rfl ?_
  obtain ⟨hV, f1⟩ := hV0.si 160 (by decide) 0
  generalize hIe : va_up I0 160 0 = I at hV
  have hM : MG V I G := hM0.cg (fun _ _ _ => rfl) (by rw [← hIe]; exact ⟨va_up_ne _ _ (by omega), va_up_ne _ _ (by omega)⟩)
  have hB : I 172 = -1 ∨ ∃ k, k < 4 ∧ I 172 = nI k ∧ BV V G k := by rw [← hIe, va_up_ne _ _ (by omega)]; exact hB0
  have hO1 : MO (sI M 160 Y 0) Y ar G := ⟨V, I, hV, hM, hB⟩
  generalize sI M 160 Y 0 = M1 at hV f1 hO1 ⊢
  have hi1 : I 161 = nI (qN G) := hM.1.1
  have ho1 : I 168 = nI (qO G) := hM.2.1
  clear hV0 hM0 hB0 hIe
  have no : aUndo G x y = (-1, G) → Gj p l e (rmo 5 0 0) s m args below meth c Θ M1 [some (.ref Y), some (.int x), some (.int y)] 0 0 (Fn below args s Θ 0 0 (pI fun r N => r = (aUndo G x y).1 ∧ MO N Y ar (aUndo G x y).2 ∧ Fr (MZ M) M N)) 72 [] := by
    intro hz
    rw [hz]
    refine r_iconst hC (-1) d_Mundo_72 (by decide) ?_
    exact r_iret hC d_Mundo_73 (Nat.le_refl _) (Nat.le_refl _) ⟨_, rfl, rfl, hO1, f1⟩
  refine r_iload_n hC 1 d_Mundo_5 rfl rfl ?_
  refine r_cSi hC [.int x] rfl (c_MisNode l Θ M1 x) mi_MisNode lk_M152 in_MisNode rfl (Nat.le_of_ble_eq_true rfl) ⟨Nat.le_of_ble_eq_true rfl, Nat.le_of_ble_eq_true rfl⟩ ⟨Nat.le_of_ble_eq_true rfl, Nat.le_of_ble_eq_true rfl⟩ d_Mundo_6 (fun r M2 h2 => ?_)
  obtain ⟨rfl, rfl⟩ := h2
  rcases ix_cases 4 x (by omega) with ⟨k, hk, rfl, ex⟩ | ⟨-, ex⟩
  · rw [ex]
    refine r_if_eq hC 72 d_Mundo_9 (by decide) (fun z => absurd z i10) (fun _ => ?_)
    refine r_iload_n hC 2 d_Mundo_12 rfl rfl ?_
    refine r_iconst hC 1 d_Mundo_13 (by decide) ?_
    refine r_aload_n hC 0 d_Mundo_14 rfl rfl ?_
    refine r_getI hC 5 1 161 fl_M81 (by exact hV.k) d_Mundo_15 rfl rfl (by exact (hV.fi 161 (by decide))) ?_
    rw [hi1]
    refine r_cSi hC [.int y, .int 1, .int (nI (qN G))] rfl (c_Mwithin l Θ M2 y 1 (nI (qN G))) mi_Mwithin lk_M148 in_Mwithin rfl (Nat.le_of_ble_eq_true rfl) ⟨Nat.le_of_ble_eq_true rfl, Nat.le_of_ble_eq_true rfl⟩ ⟨Nat.le_of_ble_eq_true rfl, Nat.le_of_ble_eq_true rfl⟩ d_Mundo_18 (fun r M3 h3 => ?_)
    obtain ⟨rfl, rfl⟩ := h3
    rw [wi_rx (by omega)]
    rcases rx_cases (qN G) y (by omega) with ⟨i, hi1', hin, rfl, er⟩ | ⟨-, er⟩
    · rw [er]
      have ea : aUndo G (nI k) (nI i) = if qN G ≠ 300 ∧ rW (qR G i) = k ∧ 1 ≤ rS (qR G i) ∧ rS (qR G i) ≤ 3 ∧ unF G i = false then (nI (qN G + 1), gAddO G k 4 i none none (qO G)) else (-1, G) := by unfold aUndo; rw [ex, er]
      have hr := hM.1.2.2.1 i hi1' hin
      have hbd := hG.1.2.1 i
      refine r_if_eq hC 72 d_Mundo_21 (by decide) (fun z => absurd z i10) (fun _ => ?_)
      refine r_aload_n hC 0 d_Mundo_24 rfl rfl ?_
      refine r_getS hC 5 3 163 fl_M13 (by exact hV.k) d_Mundo_25 rfl rfl (by exact (hV.rf 163 (by decide))) ?_
      refine r_iload_n hC 2 d_Mundo_28 rfl rfl ?_
      refine r_iald hC (i) (hV.ak 163 (by decide)) rfl (by rw [hV.al 163 (by decide)]; exact (show i < mLn 163 from (by show i < 301; omega))) (by rw [hV.al 163 (by decide)]; decide) d_Mundo_29 (hV.el 163 (by decide) (i)) ?_
      refine r_iload_n hC 1 d_Mundo_30 rfl rfl ?_
      rw [hr.2.1]
      refine r_icmp_ne hC 72 d_Mundo_31 (by decide) (fun z => no (by rw [ea, if_neg (fun q => z (by rw [q.2.1]))])) (fun z => ?_)
      have hw := (nI_eq (by omega) (by omega)).mp z
      refine r_aload_n hC 0 d_Mundo_34 rfl rfl ?_
      refine r_getS hC 5 2 162 fl_M7 (by exact hV.k) d_Mundo_35 rfl rfl (by exact (hV.rf 162 (by decide))) ?_
      refine r_iload_n hC 2 d_Mundo_38 rfl rfl ?_
      refine r_iald hC (i) (hV.ak 162 (by decide)) rfl (by rw [hV.al 162 (by decide)]; exact (show i < mLn 162 from (by show i < 301; omega))) (by rw [hV.al 162 (by decide)]; decide) d_Mundo_39 (hV.el 162 (by decide) (i)) ?_
      rw [hr.1]
      refine r_if_eq hC 72 d_Mundo_40 (by decide) (fun z => no (by rw [ea, if_neg (fun q => by have := (nI_eq (b := 0) (by omega) (by omega)).mp z; omega)])) (fun z => ?_)
      have hs0 : rS (qR G i) ≠ 0 := fun q => z (by rw [q]; rfl)
      refine r_aload_n hC 0 d_Mundo_43 rfl rfl ?_
      refine r_getS hC 5 2 162 fl_M7 (by exact hV.k) d_Mundo_44 rfl rfl (by exact (hV.rf 162 (by decide))) ?_
      refine r_iload_n hC 2 d_Mundo_47 rfl rfl ?_
      refine r_iald hC (i) (hV.ak 162 (by decide)) rfl (by rw [hV.al 162 (by decide)]; exact (show i < mLn 162 from (by show i < 301; omega))) (by rw [hV.al 162 (by decide)]; decide) d_Mundo_48 (hV.el 162 (by decide) (i)) ?_
      refine r_iconst hC 4 d_Mundo_49 (by decide) ?_
      rw [hr.1]
      refine r_icmp_eq hC 72 d_Mundo_50 (by decide) (fun z => no (by rw [ea, if_neg (fun q => by have := (nI_eq (b := 4) (by omega) (by omega)).mp z; omega)])) (fun z => ?_)
      have hs4 : rS (qR G i) ≠ 4 := fun q => z (by rw [q]; rfl)
      refine r_aload_n hC 0 d_Mundo_53 rfl rfl ?_
      refine r_iload_n hC 1 d_Mundo_54 rfl rfl ?_
      refine r_iload_n hC 2 d_Mundo_55 rfl rfl ?_
      refine r_cVi hC [.int (nI k), .int (nI i)] rfl (c_MisUndone l Θ M3 Y ar V I hV (qN G) (qR G) _ hM.1 k i hk (by omega)) mi_MisUndone lk_M135 in_MisUndone (ci := 5) rfl rfl (by exact hV.k) rfl (Nat.le_of_ble_eq_true rfl) ⟨Nat.le_of_ble_eq_true rfl, Nat.le_of_ble_eq_true rfl⟩ ⟨Nat.le_of_ble_eq_true rfl, Nat.le_of_ble_eq_true rfl⟩ d_Mundo_56 (fun v M4 h4 => ?_)
      obtain ⟨rfl, rfl⟩ := h4
      rw [un_own hG hk hi1' hin hw]
      refine r_if_ne hC 72 d_Mundo_59 (by decide) (fun z => no (by rw [ea, if_neg (fun q => by rw [q.2.2.2.2] at z; exact z rfl)])) (fun z => ?_)
      have hun := b2i_eq z
      refine r_aload_n hC 0 d_Mundo_62 rfl rfl ?_
      refine r_getI hC 5 1 161 fl_M81 (by exact hV.k) d_Mundo_63 rfl rfl (by exact (hV.fi 161 (by decide))) ?_
      rw [hi1]
      refine r_sipush hC 300 d_Mundo_66 (by decide) ?_
      refine r_icmp_ne hC 74 d_Mundo_69 (by decide) (fun z2 => ?_) (fun z2 => no (by rw [ea, if_neg (fun q => q.1 ((nI_eq (b := 300) (by omega) (by omega)).mp z2))]))
      have hn3 : qN G ≠ 300 := fun q => z2 (by rw [q]; rfl)
      rw [ea, if_pos ⟨hn3, hw, by omega, by omega, hun⟩]
      have hnew : rNew G k 4 i none none (qO G) := ⟨by omega, (fun q => absurd rfl q), fun _ => ⟨hi1', hin, by omega, by omega, hw⟩, Or.inr ⟨by omega, rfl⟩⟩
      refine r_aload_n hC 0 d_Mundo_74 rfl rfl ?_
      refine r_iload_n hC 1 d_Mundo_75 rfl rfl ?_
      refine r_iconst hC 4 d_Mundo_76 (by decide) ?_
      refine r_iload_n hC 2 d_Mundo_77 rfl rfl ?_
      refine r_iconst hC (-1) d_Mundo_78 (by decide) ?_
      refine r_iconst hC (-1) d_Mundo_79 (by decide) ?_
      refine r_cVi hC [.int (nI k), .int (nI 4), .int (nI i), .int (oO none), .int (oO none)] rfl (c_Madd l Θ M4 Y ar V _ hV G hG (qO G) hM k 4 i none none hk (by omega) (by omega) (by omega) (hG.addR hk (by omega) hnew)) mi_Madd lk_M155 in_Madd (ci := 5) rfl rfl (by exact hV.k) rfl (Nat.le_of_ble_eq_true rfl) ⟨Nat.le_of_ble_eq_true rfl, Nat.le_of_ble_eq_true rfl⟩ ⟨Nat.le_of_ble_eq_true rfl, Nat.le_of_ble_eq_true rfl⟩ d_Mundo_80 (fun r M6 h6 => ?_)
      obtain ⟨rfl, ⟨V4, I4, hV4, hM4, hb4, hw4⟩, f4⟩ := h6
      exact r_iret hC d_Mundo_83 (Nat.le_refl _) (Nat.le_refl _) ⟨_, rfl, rfl, ⟨V4, I4, hV4, hM4, Or.inl hb4⟩, f1.trans f4 (MZ.old f1)⟩
    · rw [er]
      refine r_if_eq hC 72 d_Mundo_21 (by decide) (fun _ => no (by unfold aUndo; rw [ex, er])) (fun z => absurd rfl z)
  · rw [ex]
    refine r_if_eq hC 72 d_Mundo_9 (by decide) (fun _ => no (by unfold aUndo; rw [ex])) (fun z => absurd rfl z)
