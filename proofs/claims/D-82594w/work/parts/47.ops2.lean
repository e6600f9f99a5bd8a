theorem c_Bremove (l : Launch) (Θ : Glob) (M : Mem) (X : Nat) (A : BA) (G : GS) (hG : GI G) (hB : BT M X A G) (x y z : Int32) : Ct l Θ y_Bremove 19 300 8000 [.ref X, .int x, .int y, .int z] M (pI fun r M1 => r = (aRemo G x y z).1 ∧ (∃ A', BT M1 X A' (aRemo G x y z).2) ∧ Fr (BZ M) M M1) := by
  have hB0 := hB
  obtain ⟨⟨⟨a1, a2, a3, a4, a5, a6⟩, ⟨b1, b2⟩, ⟨c1, c2, c3, c4⟩, ⟨e1, e2, e3, e4⟩⟩, hRw, hGl, hNd⟩ := hB
  have hn300 := hG.1.1
  have hob := hG.2.1
  have hsz := b1.len
  rw [rwL_len] at hsz
  refine Ct.start (cc := b_Bremove) (nL := 4) (ret := (some .int)) [some (.ref X), some (.int x), some (.int y), some (.int z)] mi_Bremove.1 (by decide +kernel) (by intro v hv; simp at hv; rcases hv with rfl | rfl | rfl | rfl <;> rfl) (by simp) rfl (fun p e s m args below meth c hC => ?_)
  have no : aRemo G x y z = (-1, G) → Gj p l e (rmo 19 300 8000) s m args below meth c Θ M [some (.ref X), some (.int x), some (.int y), some (.int z)] 0 0 (Fn below args s Θ 300 8000 (pI fun r M1 => r = (aRemo G x y z).1 ∧ (∃ A', BT M1 X A' (aRemo G x y z).2) ∧ Fr (BZ M) M M1)) 29 [] := by
    intro hz
    rw [hz]
    refine r_iconst hC (-1) d_Bremove_29 (by decide) ?_
    exact r_iret hC d_Bremove_30 (Nat.zero_le _) (Nat.zero_le _) ⟨_, rfl, rfl, ⟨A, hB0⟩, Fr.rf⟩
  refine r_aload_n hC 0 d_Bremove_0 rfl rfl ?_
  refine r_iload_n hC 1 d_Bremove_1 rfl rfl ?_
  refine r_iload_n hC 2 d_Bremove_2 rfl rfl ?_
  refine r_cVi hC [.int x, .int y] rfl (c_BmayAdd l Θ M X A G hG hB0 x y) mi_BmayAdd lk_B63 in_BmayAdd (ci := 0) rfl rfl (by exact a1) rfl (Nat.le_of_ble_eq_true rfl) ⟨Nat.le_of_ble_eq_true rfl, Nat.le_of_ble_eq_true rfl⟩ ⟨Nat.le_of_ble_eq_true rfl, Nat.le_of_ble_eq_true rfl⟩ d_Bremove_3 (fun r M1 h1 => ?_)
  obtain ⟨rfl, rfl⟩ := h1
  have no1 : ((ix 4 x).isSome && (rx (qO G - 1) y).isSome && decide (qN G < 300)) = false → aRemo G x y z = (-1, G) := by
    intro hf
    unfold aRemo
    rcases ix_cases 4 x (by omega) with ⟨k, hk, rfl, ex⟩ | ⟨-, ex⟩
    · rcases rx_cases (qO G - 1) y (by omega) with ⟨i, hi1, hin, rfl, er⟩ | ⟨-, er⟩
      · rw [ex, er] at hf ⊢
        have hf2 : qN G = 300 := by
          have := of_decide_eq_false (p := qN G < 300) hf
          omega
        exact if_pos hf2
      · rw [ex, er]
    · rw [ex]
  refine r_if_eq hC 29 d_Bremove_6 (by decide) (fun q => no (no1 (b2i_eq q))) (fun q => ?_)
  have hall := b2i_ne q
  rw [Bool.and_eq_true, Bool.and_eq_true] at hall
  rcases ix_cases 4 x (by omega) with ⟨k, hk, rfl, ex⟩ | ⟨-, ex⟩
  · rcases rx_cases (qO G - 1) y (by omega) with ⟨i, hi1, hin, rfl, er⟩ | ⟨-, er⟩
    · have hn3 : qN G < 300 := of_decide_eq_true hall.2
      have fin : ∀ ss : Nat, (ss = 2 ∨ ss = 3) → aRemo G (nI k) (nI i) z = (nI (qN G + 1), gAddO G k ss i none none (qO G)) → Gj p l e (rmo 19 300 8000) s m args below meth c Θ M1 [some (.ref X), some (.int (nI k)), some (.int (nI i)), some (.int z)] 0 0 (Fn below args s Θ 300 8000 (pI fun r M2 => r = (aRemo G (nI k) (nI i) z).1 ∧ (∃ A', BT M2 X A' (aRemo G (nI k) (nI i) z).2) ∧ Fr (BZ M1) M1 M2)) 20 [.int (nI ss), .int (nI k), .ref X] := by
        intro ss hss ea
        rw [ea]
        have hnew : rNew G k ss i none none (qO G) := ⟨by omega, fun _ => ⟨by omega, by omega, (fun q => by omega), (fun q e => by cases e), (fun q e => by cases e)⟩, (fun q => by omega), Or.inr ⟨by omega, rfl⟩⟩
        refine r_iload_n hC 2 d_Bremove_20 rfl rfl ?_
        refine r_iconst hC (-1) d_Bremove_21 (by decide) ?_
        refine r_iconst hC (-1) d_Bremove_22 (by decide) ?_
        refine r_cVi hC [.int (nI k), .int (nI ss), .int (nI i), .int (oO none), .int (oO none)] rfl (c_Badd l Θ M1 X A G _ hG hB0 k ss i none none hk (by omega) (hG.addR hk (by omega) hnew)) mi_Badd lk_B60 in_Badd (ci := 0) rfl rfl (by exact a1) rfl (Nat.le_of_ble_eq_true rfl) ⟨Nat.le_of_ble_eq_true rfl, Nat.le_of_ble_eq_true rfl⟩ ⟨Nat.le_of_ble_eq_true rfl, Nat.le_of_ble_eq_true rfl⟩ d_Bremove_23 (fun r M3 h3 => ?_)
        obtain ⟨rfl, ⟨A', hB3⟩, f3⟩ := h3
        have hu := unF_same G k ss i none none (qO G) (by omega)
        have hBT : BT M3 X A' (gAddO G k ss i none none (qO G)) := by
          have h5 := hB3
          rw [← hu] at h5
          exact h5
        refine r_goto hC 30 d_Bremove_26 (by decide) ?_
        exact r_iret hC d_Bremove_30 (Nat.le_of_ble_eq_true rfl) (Nat.le_of_ble_eq_true rfl) ⟨_, rfl, rfl, ⟨_, hBT⟩, f3⟩
      have ea : aRemo G (nI k) (nI i) z = (nI (qN G + 1), gAddO G k (if z = 0 then 2 else 3) i none none (qO G)) := by
        unfold aRemo
        rw [ex, er]
        exact if_neg (by omega)
      refine r_aload_n hC 0 d_Bremove_9 rfl rfl ?_
      refine r_iload_n hC 1 d_Bremove_10 rfl rfl ?_
      refine r_iload_n hC 3 d_Bremove_11 rfl rfl ?_
      refine r_if_eq hC 19 d_Bremove_12 (by decide) (fun q => ?_) (fun q => ?_)
      · rw [if_pos q] at ea
        refine r_iconst hC 2 d_Bremove_19 (by decide) ?_
        exact fin 2 (Or.inl rfl) ea
      · rw [if_neg q] at ea
        refine r_iconst hC 3 d_Bremove_15 (by decide) ?_
        refine r_goto hC 20 d_Bremove_16 (by decide) ?_
        exact fin 3 (Or.inr rfl) ea
    · rw [er] at hall
      exact absurd hall.1.2 (by decide)
  · rw [ex] at hall
    exact absurd hall.1.1 (by decide)
theorem c_Bundo (l : Launch) (Θ : Glob) (M : Mem) (X : Nat) (A : BA) (G : GS) (hG : GI G) (hB : BT M X A G) (x y : Int32) : Ct l Θ y_Bundo 19 300 8000 [.ref X, .int x, .int y] M (pI fun r M1 => r = (aUndo G x y).1 ∧ (∃ A', BT M1 X A' (aUndo G x y).2) ∧ Fr (BZ M) M M1) := by
  have hB0 := hB
  obtain ⟨⟨⟨a1, a2, a3, a4, a5, a6⟩, ⟨b1, b2⟩, ⟨c1, c2, c3, c4⟩, ⟨e1, e2, e3, e4⟩⟩, hRw, hGl, hNd⟩ := hB
  have hn300 := hG.1.1
  have hob := hG.2.1
  have hsz := b1.len
  rw [rwL_len] at hsz
  refine Ct.start (cc := b_Bundo) (nL := 4) (ret := (some .int)) [some (.ref X), some (.int x), some (.int y), none] mi_Bundo.1 (by decide +kernel) (by intro v hv; simp at hv; rcases hv with rfl | rfl | rfl <;> rfl) (by simp) rfl (fun p e s m args below meth c hC => ?_)
  have no : ∀ w3 : Option Value, aUndo G x y = (-1, G) → Gj p l e (rmo 19 300 8000) s m args below meth c Θ M [some (.ref X), some (.int x), some (.int y), w3] 0 0 (Fn below args s Θ 300 8000 (pI fun r M1 => r = (aUndo G x y).1 ∧ (∃ A', BT M1 X A' (aUndo G x y).2) ∧ Fr (BZ M) M M1)) 29 [] := by
    intro w3 hz
    rw [hz]
    refine r_iconst hC (-1) d_Bundo_29 (by decide) ?_
    exact r_iret hC d_Bundo_30 (Nat.zero_le _) (Nat.zero_le _) ⟨_, rfl, rfl, ⟨A, hB0⟩, Fr.rf⟩
  have no2 : ∀ w3 : Option Value, aUndo G x y = (-1, G) → Gj p l e (rmo 19 300 8000) s m args below meth c Θ M [some (.ref X), some (.int x), some (.int y), w3] 0 0 (Fn below args s Θ 300 8000 (pI fun r M1 => r = (aUndo G x y).1 ∧ (∃ A', BT M1 X A' (aUndo G x y).2) ∧ Fr (BZ M) M M1)) 78 [] := by
    intro w3 hz
    rw [hz]
    refine r_iconst hC (-1) d_Bundo_78 (by decide) ?_
    exact r_iret hC d_Bundo_79 (Nat.zero_le _) (Nat.zero_le _) ⟨_, rfl, rfl, ⟨A, hB0⟩, Fr.rf⟩
  refine r_iload_n hC 1 d_Bundo_0 rfl rfl ?_
  refine r_iconst hC 4 d_Bundo_1 (by decide) ?_
  refine r_cSi hC [.int x, .int (nI 4)] rfl (c_BisIn l Θ M x 4 (by omega)) mi_BisIn lk_B56 in_BisIn rfl (Nat.le_of_ble_eq_true rfl) ⟨Nat.le_of_ble_eq_true rfl, Nat.le_of_ble_eq_true rfl⟩ ⟨Nat.le_of_ble_eq_true rfl, Nat.le_of_ble_eq_true rfl⟩ d_Bundo_2 (fun r M1 h1 => ?_)
  obtain ⟨rfl, rfl⟩ := h1
  rcases ix_cases 4 x (by omega) with ⟨k, hk, rfl, ex⟩ | ⟨-, ex⟩
  · rw [ex]
    refine r_if_eq hC 29 d_Bundo_5 (by decide) (fun z => absurd z i10) (fun _ => ?_)
    refine r_aload_n hC 0 d_Bundo_8 rfl rfl ?_
    refine r_iload_n hC 2 d_Bundo_9 rfl rfl ?_
    refine r_cVi hC [.int y] rfl (c_BisRow l Θ M1 X A G hG hB0 y) mi_BisRow lk_B66 in_BisRow (ci := 0) rfl rfl (by exact a1) rfl (Nat.le_of_ble_eq_true rfl) ⟨Nat.le_of_ble_eq_true rfl, Nat.le_of_ble_eq_true rfl⟩ ⟨Nat.le_of_ble_eq_true rfl, Nat.le_of_ble_eq_true rfl⟩ d_Bundo_10 (fun r M2 h2 => ?_)
    obtain ⟨rfl, rfl⟩ := h2
    rcases rx_cases (qN G) y (by omega) with ⟨i, hi1, hin, rfl, er⟩ | ⟨-, er⟩
    · rw [er]
      have ea : aUndo G (nI k) (nI i) = if qN G ≠ 300 ∧ rW (qR G i) = k ∧ 1 ≤ rS (qR G i) ∧ rS (qR G i) ≤ 3 ∧ unF G i = false then (nI (qN G + 1), gAddO G k 4 i none none (qO G)) else (-1, G) := by unfold aUndo; rw [ex, er]
      have hr := hRw i hi1 hin
      have hbd := hG.1.2.1 i
      have hgi : (rwL (bR A) (qN G))[i - 1]? = some (bR A i) := by rw [rwL_get (by omega), show i - 1 + 1 = i by omega]
      refine r_if_eq hC 29 d_Bundo_13 (by decide) (fun z => absurd z i10) (fun _ => ?_)
      refine r_aload_n hC 0 d_Bundo_16 rfl rfl ?_
      refine r_getS hC 0 0 0 fl_B10 (by exact a1) d_Bundo_17 rfl rfl (by exact a3) ?_
      refine r_cVi hC [] rfl (c_Asize l Θ M2 (bL A) b1.1) mi_Asize lk_B33 in_Asize (ci := 6) rfl rfl (by exact b1.1) rfl (Nat.le_of_ble_eq_true rfl) ⟨Nat.le_of_ble_eq_true rfl, Nat.le_of_ble_eq_true rfl⟩ ⟨Nat.le_of_ble_eq_true rfl, Nat.le_of_ble_eq_true rfl⟩ d_Bundo_20 (fun r M3 h3 => ?_)
      obtain ⟨rfl, rfl⟩ := h3
      rw [hsz]
      refine r_sipush hC 300 d_Bundo_23 (by decide) ?_
      refine r_icmp_ne hC 31 d_Bundo_26 (by decide) (fun z => ?_) (fun z => no _ (by rw [ea, if_neg (fun q => q.1 ((nI_eq (b := 300) (by omega) (by omega)).mp z))]))
      have hn3 : qN G ≠ 300 := fun q => z (by rw [q]; rfl)
      refine r_aload_n hC 0 d_Bundo_31 rfl rfl ?_
      refine r_getS hC 0 0 0 fl_B10 (by exact a1) d_Bundo_32 rfl rfl (by exact a3) ?_
      refine r_iload_n hC 2 d_Bundo_35 rfl rfl ?_
      refine r_iconst hC 1 d_Bundo_36 (by decide) ?_
      refine r_isub hC (nI (i - 1)) d_Bundo_37 (by rw [show (1 : Int32) = nI 1 from rfl, pk_sub hi1]) ?_
      refine r_cVr hC [.int (nI (i - 1))] rfl (c_Aget l Θ M3 (bL A) (i - 1) _ _ b1 (by rw [rwL_len]; omega)) mi_Aget lk_B70 in_Aget (ci := 6) rfl rfl (by exact b1.1) rfl (Nat.le_of_ble_eq_true rfl) ⟨Nat.le_of_ble_eq_true rfl, Nat.le_of_ble_eq_true rfl⟩ ⟨Nat.le_of_ble_eq_true rfl, Nat.le_of_ble_eq_true rfl⟩ d_Bundo_38 (fun r M4 h4 => ?_)
      obtain ⟨rfl, rfl⟩ := h4
      rw [hgi]
      refine r_cast hC 2 rfl hr.1 cl_B37 ca_RR d_Bundo_41 ?_
      refine r_as3 hC d_Bundo_44 ?_
      refine r_aload_n hC 3 d_Bundo_45 rfl rfl ?_
      refine r_cVi hC [] rfl (c_Rnode l Θ M4 (bR A i) hr.1) mi_Rnode lk_B74 in_Rnode (ci := 2) rfl rfl (by exact hr.1) rfl (Nat.le_of_ble_eq_true rfl) ⟨Nat.le_of_ble_eq_true rfl, Nat.le_of_ble_eq_true rfl⟩ ⟨Nat.le_of_ble_eq_true rfl, Nat.le_of_ble_eq_true rfl⟩ d_Bundo_46 (fun r M5 h5 => ?_)
      obtain ⟨rfl, rfl⟩ := h5
      rw [hr.2.2.1]
      refine r_iload_n hC 1 d_Bundo_49 rfl rfl ?_
      refine r_icmp_ne hC 78 d_Bundo_50 (by decide) (fun z => no2 _ (by rw [ea, if_neg (fun q => z (by rw [q.2.1]))])) (fun z => ?_)
      have hw := (nI_eq (by omega) (by omega)).mp z
      refine r_aload_n hC 3 d_Bundo_53 rfl rfl ?_
      refine r_cVi hC [] rfl (c_Rsort l Θ M5 (bR A i) hr.1) mi_Rsort lk_B77 in_Rsort (ci := 2) rfl rfl (by exact hr.1) rfl (Nat.le_of_ble_eq_true rfl) ⟨Nat.le_of_ble_eq_true rfl, Nat.le_of_ble_eq_true rfl⟩ ⟨Nat.le_of_ble_eq_true rfl, Nat.le_of_ble_eq_true rfl⟩ d_Bundo_54 (fun r M6 h6 => ?_)
      obtain ⟨rfl, rfl⟩ := h6
      rw [hr.2.2.2.2.1]
      refine r_iconst hC 1 d_Bundo_57 (by decide) ?_
      refine r_icmp_lt hC 78 d_Bundo_58 (by decide) (fun z => no2 _ (by rw [ea, if_neg (fun q => absurd z (nI_nlt (b := 1) q.2.2.1 (by omega)))])) (fun z => ?_)
      have hs1 : 1 ≤ rS (qR G i) := by
        rcases Nat.lt_or_ge (rS (qR G i)) 1 with q | q
        · exact absurd (nI_lt (b := 1) q (by omega)) z
        · exact q
      refine r_aload_n hC 3 d_Bundo_61 rfl rfl ?_
      refine r_cVi hC [] rfl (c_Rsort l Θ M6 (bR A i) hr.1) mi_Rsort lk_B77 in_Rsort (ci := 2) rfl rfl (by exact hr.1) rfl (Nat.le_of_ble_eq_true rfl) ⟨Nat.le_of_ble_eq_true rfl, Nat.le_of_ble_eq_true rfl⟩ ⟨Nat.le_of_ble_eq_true rfl, Nat.le_of_ble_eq_true rfl⟩ d_Bundo_62 (fun r M7 h7 => ?_)
      obtain ⟨rfl, rfl⟩ := h7
      rw [hr.2.2.2.2.1]
      refine r_iconst hC 3 d_Bundo_65 (by decide) ?_
      refine r_icmp_gt hC 78 d_Bundo_66 (by decide) (fun z => no2 _ (by rw [ea, if_neg (fun q => absurd z (nI_nlt (b := rS (qR G i)) (a := 3) q.2.2.2.1 (by omega)))])) (fun z => ?_)
      have hs3 : rS (qR G i) ≤ 3 := by
        rcases Nat.lt_or_ge 3 (rS (qR G i)) with q | q
        · exact absurd (nI_lt (a := 3) q (by omega)) z
        · exact q
      refine r_aload_n hC 0 d_Bundo_69 rfl rfl ?_
      refine r_getS hC 0 2 2 fl_B22 (by exact a1) d_Bundo_70 rfl rfl (by exact a5) ?_
      refine r_iload_n hC 2 d_Bundo_73 rfl rfl ?_
      refine r_zald hC i e1 rfl (by rw [e3]; omega) (by rw [e3]; omega) d_Bundo_74 (e4 i (by omega)) ?_
      refine r_if_eq hC 80 d_Bundo_75 (by decide) (fun z => ?_) (fun z => no2 _ (by rw [ea, if_neg (fun q => by rw [b2i_ne z] at q; cases q.2.2.2.2)]))
      have hun := b2i_eq z
      rw [ea, if_pos ⟨hn3, hw, hs1, hs3, hun⟩]
      have hnew : rNew G k 4 i none none (qO G) := ⟨by omega, (fun q => absurd rfl q), fun _ => ⟨hi1, hin, by omega, by omega, hw⟩, Or.inr ⟨by omega, rfl⟩⟩
      refine r_aload_n hC 0 d_Bundo_80 rfl rfl ?_
      refine r_getS hC 0 2 2 fl_B22 (by exact a1) d_Bundo_81 rfl rfl (by exact a5) ?_
      refine r_iload_n hC 2 d_Bundo_84 rfl rfl ?_
      refine r_iconst hC 1 d_Bundo_85 (by decide) ?_
      refine r_zast hC i e1 rfl (by rw [e3]; omega) (by rw [e3]; omega) (Or.inr rfl) d_Bundo_86 ?_
      have hB8 := BTu.setU (i := i) hB0 (by omega)
      generalize sEI M7 (bU A) i 1 = M8 at hB8 ⊢
      have k8 := hB8.1.1.1.1
      refine r_aload_n hC 0 d_Bundo_87 rfl rfl ?_
      refine r_iload_n hC 1 d_Bundo_88 rfl rfl ?_
      refine r_iconst hC 4 d_Bundo_89 (by decide) ?_
      refine r_iload_n hC 2 d_Bundo_90 rfl rfl ?_
      refine r_iconst hC (-1) d_Bundo_91 (by decide) ?_
      refine r_iconst hC (-1) d_Bundo_92 (by decide) ?_
      refine r_cVi hC [.int (nI k), .int (nI 4), .int (nI i), .int (oO none), .int (oO none)] rfl (c_Badd l Θ M8 X A G _ hG hB8.1 k 4 i none none hk (by omega) (hG.addR hk (by omega) hnew)) mi_Badd lk_B60 in_Badd (ci := 0) rfl rfl (by exact k8) rfl (Nat.le_of_ble_eq_true rfl) ⟨Nat.le_of_ble_eq_true rfl, Nat.le_of_ble_eq_true rfl⟩ ⟨Nat.le_of_ble_eq_true rfl, Nat.le_of_ble_eq_true rfl⟩ d_Bundo_93 (fun r M9 h9 => ?_)
      obtain ⟨rfl, ⟨A', hB9⟩, f9⟩ := h9
      have hu := unF_4 G k i none none (qO G)
      have hBT : BT M9 X A' (gAddO G k 4 i none none (qO G)) := by
        have h5 := hB9
        rw [← hu] at h5
        exact h5
      exact r_iret hC d_Bundo_96 (Nat.le_of_ble_eq_true rfl) (Nat.le_of_ble_eq_true rfl) ⟨_, rfl, rfl, ⟨_, hBT⟩, hB8.2.trans f9 (BZ.old hB8.2)⟩
    · rw [er]
      refine r_if_eq hC 29 d_Bundo_13 (by decide) (fun _ => no _ (by unfold aUndo; rw [ex, er])) (fun z => absurd rfl z)
  · rw [ex]
    refine r_if_eq hC 29 d_Bundo_5 (by decide) (fun _ => no _ (by unfold aUndo; rw [ex])) (fun z => absurd rfl z)
theorem c_Bsee (l : Launch) (Θ : Glob) (M : Mem) (X : Nat) (A : BA) (G : GS) (hG : GI G) (hB : BT M X A G) (x y : Int32) : Ct l Θ y_Bsee 19 300 8000 [.ref X, .int x, .int y] M (pI fun r M1 => r = (aSee G x y).1 ∧ (∃ A', BT M1 X A' (aSee G x y).2) ∧ Fr (BZ M) M M1) := by
  have hB0 := hB
  obtain ⟨⟨⟨a1, a2, a3, a4, a5, a6⟩, ⟨b1, b2⟩, ⟨c1, c2, c3, c4⟩, ⟨e1, e2, e3, e4⟩⟩, hRw, hGl, hNd⟩ := hB
  have hn300 := hG.1.1
  have hob := hG.2.1
  have hsz := b1.len
  rw [rwL_len] at hsz
  refine Ct.start (cc := b_Bsee) (nL := 3) (ret := (some .int)) [some (.ref X), some (.int x), some (.int y)] mi_Bsee.1 (by decide +kernel) (by intro v hv; simp at hv; rcases hv with rfl | rfl | rfl <;> rfl) (by simp) rfl (fun p e s m args below meth c hC => ?_)
  have no : aSee G x y = (-1, G) → Gj p l e (rmo 19 300 8000) s m args below meth c Θ M [some (.ref X), some (.int x), some (.int y)] 0 0 (Fn below args s Θ 300 8000 (pI fun r M1 => r = (aSee G x y).1 ∧ (∃ A', BT M1 X A' (aSee G x y).2) ∧ Fr (BZ M) M M1)) 30 [] := by
    intro hz
    rw [hz]
    refine r_iconst hC (-1) d_Bsee_30 (by decide) ?_
    exact r_iret hC d_Bsee_31 (Nat.zero_le _) (Nat.zero_le _) ⟨_, rfl, rfl, ⟨A, hB0⟩, Fr.rf⟩
  refine r_iload_n hC 1 d_Bsee_0 rfl rfl ?_
  refine r_iconst hC 4 d_Bsee_1 (by decide) ?_
  refine r_cSi hC [.int x, .int (nI 4)] rfl (c_BisIn l Θ M x 4 (by omega)) mi_BisIn lk_B56 in_BisIn rfl (Nat.le_of_ble_eq_true rfl) ⟨Nat.le_of_ble_eq_true rfl, Nat.le_of_ble_eq_true rfl⟩ ⟨Nat.le_of_ble_eq_true rfl, Nat.le_of_ble_eq_true rfl⟩ d_Bsee_2 (fun r M1 h1 => ?_)
  obtain ⟨rfl, rfl⟩ := h1
  rcases ix_cases 4 x (by omega) with ⟨k, hk, rfl, ex⟩ | ⟨-, ex⟩
  · rw [ex]
    refine r_if_eq hC 30 d_Bsee_5 (by decide) (fun z => absurd z i10) (fun _ => ?_)
    refine r_aload_n hC 0 d_Bsee_8 rfl rfl ?_
    refine r_iload_n hC 2 d_Bsee_9 rfl rfl ?_
    refine r_cVi hC [.int y] rfl (c_BisRow l Θ M1 X A G hG hB0 y) mi_BisRow lk_B66 in_BisRow (ci := 0) rfl rfl (by exact a1) rfl (Nat.le_of_ble_eq_true rfl) ⟨Nat.le_of_ble_eq_true rfl, Nat.le_of_ble_eq_true rfl⟩ ⟨Nat.le_of_ble_eq_true rfl, Nat.le_of_ble_eq_true rfl⟩ d_Bsee_10 (fun r M2 h2 => ?_)
    obtain ⟨rfl, rfl⟩ := h2
    rcases rx_cases (qN G) y (by omega) with ⟨i, hi1, hin, rfl, er⟩ | ⟨-, er⟩
    · rw [er]
      have ea : aSee G (nI k) (nI i) = if vK (qD G k) i = true then (-1, G) else (nI (vO (lrn (qR G) (qD G k) i)), gLrn G k i) := by unfold aSee; rw [ex, er]
      have hr := hRw i hi1 hin
      have hgi : (rwL (bR A) (qN G))[i - 1]? = some (bR A i) := by rw [rwL_get (by omega), show i - 1 + 1 = i by omega]
      obtain ⟨hX, hK, -, -, -, -⟩ := id (hNd k hk)
      have hT := hX.1.1
      have hkv := hK.2.2.2 i (by omega)
      refine r_if_eq hC 30 d_Bsee_13 (by decide) (fun z => absurd z i10) (fun _ => ?_)
      refine r_aload_n hC 0 d_Bsee_16 rfl rfl ?_
      refine r_getS hC 0 1 1 fl_B18 (by exact a1) d_Bsee_17 rfl rfl (by exact a4) ?_
      refine r_iload_n hC 1 d_Bsee_20 rfl rfl ?_
      refine r_aaldS hC 5 k (by rw [c1]; rfl) (by omega) rfl (by rw [c3]; exact hk) (by rw [c3]; omega) d_Bsee_21 (c4 k hk) ?_
      refine r_getS hC 4 4 132 fl_B80 (by exact hT.1) d_Bsee_22 rfl rfl (by exact hT.2.2.2.2.1) ?_
      refine r_iload_n hC 2 d_Bsee_25 rfl rfl ?_
      refine r_aald hC 4 i (by rw [hK.1]; rfl) (by omega) rfl (by rw [hK.2.1]; omega) (by rw [hK.2.1]; omega) d_Bsee_26 hkv ?_
      cases hkn : vK (qD G k) i with
      | true =>
        refine r_ifnull hC (r := some (bS A k i)) 32 d_Bsee_27 (by decide) (fun q => by cases q) (fun _ _ => no (by rw [ea, if_pos hkn]))
      | false =>
        rw [ea, if_neg (by rw [hkn]; decide)]
        refine r_ifnull hC (r := none) 32 d_Bsee_27 (by decide) (fun _ => ?_) (fun _ q => by cases q)
        refine r_aload_n hC 0 d_Bsee_32 rfl rfl ?_
        refine r_getS hC 0 1 1 fl_B18 (by exact a1) d_Bsee_33 rfl rfl (by exact a4) ?_
        refine r_iload_n hC 1 d_Bsee_36 rfl rfl ?_
        refine r_aaldS hC 5 k (by rw [c1]; rfl) (by omega) rfl (by rw [c3]; exact hk) (by rw [c3]; omega) d_Bsee_37 (c4 k hk) ?_
        refine r_aload_n hC 0 d_Bsee_38 rfl rfl ?_
        refine r_getS hC 0 0 0 fl_B10 (by exact a1) d_Bsee_39 rfl rfl (by exact a3) ?_
        refine r_iload_n hC 2 d_Bsee_42 rfl rfl ?_
        refine r_iconst hC 1 d_Bsee_43 (by decide) ?_
        refine r_isub hC (nI (i - 1)) d_Bsee_44 (by rw [show (1 : Int32) = nI 1 from rfl, pk_sub hi1]) ?_
        refine r_cVr hC [.int (nI (i - 1))] rfl (c_Aget l Θ M2 (bL A) (i - 1) _ _ b1 (by rw [rwL_len]; omega)) mi_Aget lk_B70 in_Aget (ci := 6) rfl rfl (by exact b1.1) rfl (Nat.le_of_ble_eq_true rfl) ⟨Nat.le_of_ble_eq_true rfl, Nat.le_of_ble_eq_true rfl⟩ ⟨Nat.le_of_ble_eq_true rfl, Nat.le_of_ble_eq_true rfl⟩ d_Bsee_45 (fun r M4 h4 => ?_)
        obtain ⟨rfl, rfl⟩ := h4
        rw [hgi]
        refine r_cast hC 2 rfl hr.1 cl_B37 ca_RR d_Bsee_48 ?_
        have hpt := pC_le (qD G k)
        refine r_cVv hC [.ref (bR A i)] rfl (c_Tlearn l Θ M4 (bD A k) _ (qN G) hG.1 (bR A) (bS A k) (qD G k) (hG.2.2.1 k hk) (hNd k hk) i hi1 hin hkn hr 226 6496 (by omega) (by omega)) mi_Tlearn lk_B49 in_Tlearn (ci := 4) rfl rfl (by exact hT.1) rfl (Nat.le_of_ble_eq_true rfl) ⟨Nat.le_of_ble_eq_true rfl, Nat.le_of_ble_eq_true rfl⟩ ⟨Nat.le_of_ble_eq_true rfl, Nat.le_of_ble_eq_true rfl⟩ d_Bsee_51 (fun M5 h5 => ?_)
        obtain ⟨q5, hN5, f5⟩ := h5
        have hB5 := BTu.learn hB0 hk hN5 f5
        have hBT : BT M5 X _ (gLrn G k i) := hB5.1
        obtain ⟨⟨⟨a1, a2, a3, a4, a5, a6⟩, ⟨b1, b2⟩, ⟨c1, c2, c3, c4⟩, ⟨e1, e2, e3, e4⟩⟩, -, -, hNd5⟩ := id hB5.1
        obtain ⟨hX5, -, -, ⟨-, -, m3⟩, -, -⟩ := hN5
        refine r_aload_n hC 0 d_Bsee_54 rfl rfl ?_
        refine r_getS hC 0 1 1 fl_B18 (by exact a1) d_Bsee_55 rfl rfl (by exact a4) ?_
        refine r_iload_n hC 1 d_Bsee_58 rfl rfl ?_
        refine r_aaldS hC 5 k (by rw [c1]; rfl) (by omega) rfl (by rw [c3]; exact hk) (by rw [c3]; omega) d_Bsee_59 (c4 k hk) ?_
        refine r_getI hC 4 8 136 fl_B84 (by exact hX5.1.1.1) d_Bsee_60 rfl rfl (by exact m3) ?_
        exact r_iret hC d_Bsee_63 (Nat.le_of_ble_eq_true rfl) (Nat.le_of_ble_eq_true rfl) ⟨_, rfl, rfl, ⟨_, hBT⟩, hB5.2⟩
    · rw [er]
      refine r_if_eq hC 30 d_Bsee_13 (by decide) (fun _ => no (by unfold aSee; rw [ex, er])) (fun z => absurd rfl z)
  · rw [ex]
    refine r_if_eq hC 30 d_Bsee_5 (by decide) (fun _ => no (by unfold aSee; rw [ex])) (fun z => absurd rfl z)
