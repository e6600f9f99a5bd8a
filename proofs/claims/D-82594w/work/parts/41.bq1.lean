theorem i10 : ¬ ((1 : Int32) = 0) := by decide
/-! answers -/
def rx (n : Nat) (x : Int32) : Option Nat := match ix (n + 1) x with
  | none => none
  | some 0 => none
  | some (i + 1) => some (i + 1)
theorem rx_cases (n : Nat) (x : Int32) (hn : n < 2 ^ 30) : (∃ i, 1 ≤ i ∧ i ≤ n ∧ x = nI i ∧ rx n x = some i) ∨ ((x ≤ 0 ∨ nI n < x) ∧ rx n x = none) := by
  rcases ix_cases (n + 1) x (by omega) with ⟨j, hj, rfl, e⟩ | ⟨h, e⟩
  · cases j with
    | zero => exact Or.inr ⟨Or.inl (Int32.le_refl _), by unfold rx; rw [e]⟩
    | succ j => exact Or.inl ⟨j + 1, by omega, by omega, rfl, by unfold rx; rw [e]⟩
  · refine Or.inr ⟨?_, by unfold rx; rw [e]⟩
    rcases h with h | h
    · exact Or.inl (Int32.le_of_lt h)
    · refine Or.inr ?_
      rw [Int32.le_iff_toInt_le, nI_toInt (by omega)] at h
      rw [Int32.lt_iff_toInt_lt, nI_toInt (by omega)]
      omega
theorem sw6 (x : Int32) : x = 0 ∨ x = 1 ∨ x = 2 ∨ x = 3 ∨ x = 4 ∨ x = 5 ∨ ((x.toInt < 0 ∨ 5 < x.toInt) ∧ x ≠ 0 ∧ x ≠ 1 ∧ x ≠ 2 ∧ x ≠ 3 ∧ x ≠ 4 ∧ x ≠ 5) := by
  by_cases h : x.toInt < 0 ∨ 5 < x.toInt
  · refine Or.inr (Or.inr (Or.inr (Or.inr (Or.inr (Or.inr ⟨h, ?_, ?_, ?_, ?_, ?_, ?_⟩)))))
    all_goals (intro z; rw [z] at h; revert h; decide)
  · have h2 : x.toInt = 0 ∨ x.toInt = 1 ∨ x.toInt = 2 ∨ x.toInt = 3 ∨ x.toInt = 4 ∨ x.toInt = 5 := by omega
    rcases h2 with h2 | h2 | h2 | h2 | h2 | h2
    · exact Or.inl (Int32.toInt_inj.mp h2)
    · exact Or.inr (Or.inl (Int32.toInt_inj.mp h2))
    · exact Or.inr (Or.inr (Or.inl (Int32.toInt_inj.mp h2)))
    · exact Or.inr (Or.inr (Or.inr (Or.inl (Int32.toInt_inj.mp h2))))
    · exact Or.inr (Or.inr (Or.inr (Or.inr (Or.inl (Int32.toInt_inj.mp h2)))))
    · exact Or.inr (Or.inr (Or.inr (Or.inr (Or.inr (Or.inl (Int32.toInt_inj.mp h2))))))
noncomputable def tr (G : GS) (k : Nat) : TS := rn (qR G) (vU (qD G k)) tS0 (vN (qD G k))
def aCost (G : GS) (x : Int32) : Int32 := match ix 4 x with
  | none => -1
  | some k => nI (vO (qD G k))
def rowF (r : RowT) (w : Int32) : Int32 := if w = 0 then nI (rS r) else if w = 1 then nI (rW r) else if w = 2 then nI (rT r) else if w = 3 then nI (rO r) else if w = 4 then oO (rP r) else if w = 5 then oO (rB r) else -1
def aRow (G : GS) (x w : Int32) : Int32 := match rx (qN G) x with
  | none => -1
  | some i => rowF (qR G i) w
noncomputable def plF (G : GS) (x y : Int32) : Option (Nat × Nat) := match ix 4 x, ix 40 y with
  | some k, some o => if th (tr G k) o = true then some (k, o) else none
  | _, _ => none
theorem c_BisIn (l : Launch) (Θ : Glob) (M : Mem) (x : Int32) (mm : Nat) (hm : mm < 2 ^ 31) : Ct l Θ y_BisIn 1 0 0 [.int x, .int (nI mm)] M (pI fun r M1 => r = b2i (ix mm x).isSome ∧ M1 = M) := by
  refine Ct.start (cc := b_BisIn) (nL := 2) (ret := (some .boolean)) [some (.int x), some (.int (nI mm))] mi_BisIn.1 (by decide +kernel) (by intro v hv; simp at hv; rcases hv with rfl | rfl <;> rfl) (by simp) rfl (fun p e s m args below meth c hC => ?_)
  rcases ix_cases mm x hm with ⟨j, hj, rfl, e⟩ | ⟨h, e⟩
  · rw [e]
    refine r_iload_n hC 0 d_BisIn_0 rfl rfl ?_
    refine r_if_lt hC 13 d_BisIn_1 (by decide) (fun z => absurd z (nI_pos (by omega))) (fun _ => ?_)
    refine r_iload_n hC 0 d_BisIn_4 rfl rfl ?_
    refine r_iload_n hC 1 d_BisIn_5 rfl rfl ?_
    refine r_icmp_ge hC 13 d_BisIn_6 (by decide) (fun z => absurd z (nI_ge hj hm)) (fun _ => ?_)
    refine r_iconst hC 1 d_BisIn_9 (by decide) ?_
    refine r_goto hC 14 d_BisIn_10 (by decide) ?_
    exact r_zret hC d_BisIn_14 (Or.inr rfl) (Nat.le_refl _) (Nat.le_refl _) ⟨_, rfl, rfl, rfl⟩
  · rw [e]
    refine r_iload_n hC 0 d_BisIn_0 rfl rfl ?_
    refine r_if_lt hC 13 d_BisIn_1 (by decide) (fun z => ?_) (fun z => ?_)
    · skip
      refine r_iconst hC 0 d_BisIn_13 (by decide) ?_
      exact r_zret hC d_BisIn_14 (Or.inl rfl) (Nat.le_refl _) (Nat.le_refl _) ⟨_, rfl, rfl, rfl⟩
    · skip
      refine r_iload_n hC 0 d_BisIn_4 rfl rfl ?_
      refine r_iload_n hC 1 d_BisIn_5 rfl rfl ?_
      refine r_icmp_ge hC 13 d_BisIn_6 (by decide) (fun _ => ?_) (fun z2 => ?_)
      · skip
        refine r_iconst hC 0 d_BisIn_13 (by decide) ?_
        exact r_zret hC d_BisIn_14 (Or.inl rfl) (Nat.le_refl _) (Nat.le_refl _) ⟨_, rfl, rfl, rfl⟩
      · exact absurd h (fun h => h.elim z z2)
theorem c_BisRow (l : Launch) (Θ : Glob) (M : Mem) (X : Nat) (A : BA) (G : GS) (hG : GI G) (hB : BT M X A G) (x : Int32) : Ct l Θ y_BisRow 3 0 0 [.ref X, .int x] M (pI fun r M1 => r = b2i (rx (qN G) x).isSome ∧ M1 = M) := by
  obtain ⟨⟨⟨a1, a2, a3, a4, a5, a6⟩, ⟨b1, b2⟩, ⟨c1, c2, c3, c4⟩, ⟨e1, e2, e3, e4⟩⟩, hRw, hGl, hNd⟩ := hB
  have hn300 := hG.1.1
  have hsz := b1.len
  rw [rwL_len] at hsz
  refine Ct.start (cc := b_BisRow) (nL := 2) (ret := (some .boolean)) [some (.ref X), some (.int x)] mi_BisRow.1 (by decide +kernel) (by intro v hv; simp at hv; rcases hv with rfl | rfl <;> rfl) (by simp) rfl (fun p e s m args below meth c hC => ?_)
  rcases rx_cases (qN G) x (by omega) with ⟨i, hi1, hin, rfl, e⟩ | ⟨h, e⟩
  · rw [e]
    refine r_iload_n hC 1 d_BisRow_0 rfl rfl ?_
    refine r_if_le hC 19 d_BisRow_1 (by decide) (fun z => absurd z (nI_nle (by omega) (by omega))) (fun _ => ?_)
    refine r_iload_n hC 1 d_BisRow_4 rfl rfl ?_
    refine r_aload_n hC 0 d_BisRow_5 rfl rfl ?_
    refine r_getS hC 0 0 0 fl_B10 (by exact a1) d_BisRow_6 rfl rfl (by exact a3) ?_
    refine r_cVi hC [] rfl (c_Asize l Θ M (bL A) b1.1) mi_Asize lk_B33 in_Asize (ci := 6) rfl rfl (by exact b1.1) rfl (Nat.le_of_ble_eq_true rfl) ⟨Nat.le_of_ble_eq_true rfl, Nat.le_of_ble_eq_true rfl⟩ ⟨Nat.le_of_ble_eq_true rfl, Nat.le_of_ble_eq_true rfl⟩ d_BisRow_9 (fun r M1 h1 => ?_)
    obtain ⟨rfl, rfl⟩ := h1
    rw [hsz]
    refine r_icmp_gt hC 19 d_BisRow_12 (by decide) (fun z => absurd z (nI_nlt hin (by omega))) (fun _ => ?_)
    refine r_iconst hC 1 d_BisRow_15 (by decide) ?_
    refine r_goto hC 20 d_BisRow_16 (by decide) ?_
    exact r_zret hC d_BisRow_20 (Or.inr rfl) (Nat.le_refl _) (Nat.le_refl _) ⟨_, rfl, rfl, rfl⟩
  · rw [e]
    refine r_iload_n hC 1 d_BisRow_0 rfl rfl ?_
    refine r_if_le hC 19 d_BisRow_1 (by decide) (fun z => ?_) (fun z => ?_)
    · skip
      refine r_iconst hC 0 d_BisRow_19 (by decide) ?_
      exact r_zret hC d_BisRow_20 (Or.inl rfl) (Nat.le_refl _) (Nat.le_refl _) ⟨_, rfl, rfl, rfl⟩
    · skip
      refine r_iload_n hC 1 d_BisRow_4 rfl rfl ?_
      refine r_aload_n hC 0 d_BisRow_5 rfl rfl ?_
      refine r_getS hC 0 0 0 fl_B10 (by exact a1) d_BisRow_6 rfl rfl (by exact a3) ?_
      refine r_cVi hC [] rfl (c_Asize l Θ M (bL A) b1.1) mi_Asize lk_B33 in_Asize (ci := 6) rfl rfl (by exact b1.1) rfl (Nat.le_of_ble_eq_true rfl) ⟨Nat.le_of_ble_eq_true rfl, Nat.le_of_ble_eq_true rfl⟩ ⟨Nat.le_of_ble_eq_true rfl, Nat.le_of_ble_eq_true rfl⟩ d_BisRow_9 (fun r M1 h1 => ?_)
      obtain ⟨rfl, rfl⟩ := h1
      rw [hsz]
      refine r_icmp_gt hC 19 d_BisRow_12 (by decide) (fun _ => ?_) (fun z2 => ?_)
      · skip
        refine r_iconst hC 0 d_BisRow_19 (by decide) ?_
        exact r_zret hC d_BisRow_20 (Or.inl rfl) (Nat.le_refl _) (Nat.le_refl _) ⟨_, rfl, rfl, rfl⟩
      · exact absurd h (fun h => h.elim z z2)
theorem c_Bcost (l : Launch) (Θ : Glob) (M : Mem) (X : Nat) (A : BA) (G : GS) (hG : GI G) (hB : BT M X A G) (x : Int32) : Ct l Θ y_Bcost 3 0 0 [.ref X, .int x] M (pI fun r M1 => r = aCost G x ∧ M1 = M) := by
  obtain ⟨⟨⟨a1, a2, a3, a4, a5, a6⟩, ⟨b1, b2⟩, ⟨c1, c2, c3, c4⟩, ⟨e1, e2, e3, e4⟩⟩, hRw, hGl, hNd⟩ := hB
  have hn300 := hG.1.1
  have hsz := b1.len
  rw [rwL_len] at hsz
  refine Ct.start (cc := b_Bcost) (nL := 2) (ret := (some .int)) [some (.ref X), some (.int x)] mi_Bcost.1 (by decide +kernel) (by intro v hv; simp at hv; rcases hv with rfl | rfl <;> rfl) (by simp) rfl (fun p e s m args below meth c hC => ?_)
  refine r_iload_n hC 1 d_Bcost_0 rfl rfl ?_
  refine r_iconst hC 4 d_Bcost_1 (by decide) ?_
  refine r_cSi hC [.int x, .int (nI 4)] rfl (c_BisIn l Θ M x 4 (by omega)) mi_BisIn lk_B56 in_BisIn rfl (Nat.le_of_ble_eq_true rfl) ⟨Nat.le_of_ble_eq_true rfl, Nat.le_of_ble_eq_true rfl⟩ ⟨Nat.le_of_ble_eq_true rfl, Nat.le_of_ble_eq_true rfl⟩ d_Bcost_2 (fun r M1 h1 => ?_)
  obtain ⟨rfl, rfl⟩ := h1
  rcases ix_cases 4 x (by omega) with ⟨k, hk, rfl, e⟩ | ⟨-, e⟩
  · have ea : aCost G (nI k) = nI (vO (qD G k)) := by unfold aCost; rw [e]
    rw [e, ea]
    obtain ⟨hX, -, -, ⟨-, -, m3⟩, -, -⟩ := hNd k hk
    refine r_if_eq hC 20 d_Bcost_5 (by decide) (fun z => absurd z i10) (fun _ => ?_)
    refine r_aload_n hC 0 d_Bcost_8 rfl rfl ?_
    refine r_getS hC 0 1 1 fl_B18 (by exact a1) d_Bcost_9 rfl rfl (by exact a4) ?_
    refine r_iload_n hC 1 d_Bcost_12 rfl rfl ?_
    refine r_aaldS hC 5 k (by rw [c1]; rfl) (by omega) rfl (by rw [c3]; exact hk) (by rw [c3]; omega) d_Bcost_13 (c4 k hk) ?_
    refine r_getI hC 4 8 136 fl_B84 (by exact hX.1.1.1) d_Bcost_14 rfl rfl (by exact m3) ?_
    refine r_goto hC 21 d_Bcost_17 (by decide) ?_
    exact r_iret hC d_Bcost_21 (Nat.le_refl _) (Nat.le_refl _) ⟨_, rfl, rfl, rfl⟩
  · have ea : aCost G x = -1 := by unfold aCost; rw [e]
    rw [e, ea]
    refine r_if_eq hC 20 d_Bcost_5 (by decide) (fun _ => ?_) (fun z => absurd rfl z)
    refine r_iconst hC (-1) d_Bcost_20 (by decide) ?_
    exact r_iret hC d_Bcost_21 (Nat.le_refl _) (Nat.le_refl _) ⟨_, rfl, rfl, rfl⟩
theorem c_Brow (l : Launch) (Θ : Glob) (M : Mem) (X : Nat) (A : BA) (G : GS) (hG : GI G) (hB : BT M X A G) (x y : Int32) : Ct l Θ y_Brow 4 0 0 [.ref X, .int x, .int y] M (pI fun r M1 => r = aRow G x y ∧ M1 = M) := by
  have hB0 := hB
  obtain ⟨⟨⟨a1, a2, a3, a4, a5, a6⟩, ⟨b1, b2⟩, ⟨c1, c2, c3, c4⟩, ⟨e1, e2, e3, e4⟩⟩, hRw, hGl, hNd⟩ := hB
  have hn300 := hG.1.1
  have hsz := b1.len
  rw [rwL_len] at hsz
  refine Ct.start (cc := b_Brow) (nL := 4) (ret := (some .int)) [some (.ref X), some (.int x), some (.int y), none] mi_Brow.1 (by decide +kernel) (by intro v hv; simp at hv; rcases hv with rfl | rfl | rfl <;> rfl) (by simp) rfl (fun p e s m args below meth c hC => ?_)
  refine r_aload_n hC 0 d_Brow_0 rfl rfl ?_
  refine r_iload_n hC 1 d_Brow_1 rfl rfl ?_
  refine r_cVi hC [.int x] rfl (c_BisRow l Θ M X A G hG hB0 x) mi_BisRow lk_B66 in_BisRow (ci := 0) rfl rfl (by exact a1) rfl (Nat.le_of_ble_eq_true rfl) ⟨Nat.le_of_ble_eq_true rfl, Nat.le_of_ble_eq_true rfl⟩ ⟨Nat.le_of_ble_eq_true rfl, Nat.le_of_ble_eq_true rfl⟩ d_Brow_2 (fun r M1 h1 => ?_)
  obtain ⟨rfl, rfl⟩ := h1
  rcases rx_cases (qN G) x (by omega) with ⟨i, hi1, hin, rfl, e⟩ | ⟨-, e⟩
  · have ea : aRow G (nI i) y = rowF (qR G i) y := by unfold aRow; rw [e]
    rw [e, ea]
    have hr := hRw i hi1 hin
    have hgi : (rwL (bR A) (qN G))[i - 1]? = some (bR A i) := by rw [rwL_get (by omega), show i - 1 + 1 = i by omega]
    refine r_if_ne hC 10 d_Brow_5 (by decide) (fun _ => ?_) (fun z => absurd z i10)
    refine r_aload_n hC 0 d_Brow_10 rfl rfl ?_
    refine r_getS hC 0 0 0 fl_B10 (by exact a1) d_Brow_11 rfl rfl (by exact a3) ?_
    refine r_iload_n hC 1 d_Brow_14 rfl rfl ?_
    refine r_iconst hC 1 d_Brow_15 (by decide) ?_
    refine r_isub hC (nI (i - 1)) d_Brow_16 (by rw [show (1 : Int32) = nI 1 from rfl, pk_sub hi1]) ?_
    refine r_cVr hC [.int (nI (i - 1))] rfl (c_Aget l Θ M1 (bL A) (i - 1) _ _ b1 (by rw [rwL_len]; omega)) mi_Aget lk_B70 in_Aget (ci := 6) rfl rfl (by exact b1.1) rfl (Nat.le_of_ble_eq_true rfl) ⟨Nat.le_of_ble_eq_true rfl, Nat.le_of_ble_eq_true rfl⟩ ⟨Nat.le_of_ble_eq_true rfl, Nat.le_of_ble_eq_true rfl⟩ d_Brow_17 (fun r M2 h2 => ?_)
    obtain ⟨rfl, rfl⟩ := h2
    rw [hgi]
    refine r_cast hC 2 rfl hr.1 cl_B37 ca_RR d_Brow_20 ?_
    refine r_as3 hC d_Brow_23 ?_
    refine r_iload_n hC 2 d_Brow_24 rfl rfl ?_
    rcases sw6 y with rfl | rfl | rfl | rfl | rfl | rfl | ⟨hy, y0, y1, y2, y3, y4, y5⟩
    · refine r_tableIn hC 64 d_Brow_25 (by decide) (by decide) rfl (by decide) ?_
      refine r_aload_n hC 3 d_Brow_64 rfl rfl ?_
      refine r_cVi hC [] rfl (c_Rsort l Θ M2 (bR A i) hr.1) mi_Rsort lk_B77 in_Rsort (ci := 2) rfl rfl (by exact hr.1) rfl (Nat.le_of_ble_eq_true rfl) ⟨Nat.le_of_ble_eq_true rfl, Nat.le_of_ble_eq_true rfl⟩ ⟨Nat.le_of_ble_eq_true rfl, Nat.le_of_ble_eq_true rfl⟩ d_Brow_65 (fun r M3 h3 => ?_)
      obtain ⟨rfl, rfl⟩ := h3
      exact r_iret hC d_Brow_68 (Nat.le_refl _) (Nat.le_refl _) ⟨_, rfl, hr.2.2.2.2.1, rfl⟩
    · refine r_tableIn hC 69 d_Brow_25 (by decide) (by decide) rfl (by decide) ?_
      refine r_aload_n hC 3 d_Brow_69 rfl rfl ?_
      refine r_cVi hC [] rfl (c_Rnode l Θ M2 (bR A i) hr.1) mi_Rnode lk_B74 in_Rnode (ci := 2) rfl rfl (by exact hr.1) rfl (Nat.le_of_ble_eq_true rfl) ⟨Nat.le_of_ble_eq_true rfl, Nat.le_of_ble_eq_true rfl⟩ ⟨Nat.le_of_ble_eq_true rfl, Nat.le_of_ble_eq_true rfl⟩ d_Brow_70 (fun r M3 h3 => ?_)
      obtain ⟨rfl, rfl⟩ := h3
      exact r_iret hC d_Brow_73 (Nat.le_refl _) (Nat.le_refl _) ⟨_, rfl, hr.2.2.1, rfl⟩
    · refine r_tableIn hC 74 d_Brow_25 (by decide) (by decide) rfl (by decide) ?_
      refine r_aload_n hC 3 d_Brow_74 rfl rfl ?_
      refine r_cVi hC [] rfl (c_Rtime l Θ M2 (bR A i) hr.1) mi_Rtime lk_B152 in_Rtime (ci := 2) rfl rfl (by exact hr.1) rfl (Nat.le_of_ble_eq_true rfl) ⟨Nat.le_of_ble_eq_true rfl, Nat.le_of_ble_eq_true rfl⟩ ⟨Nat.le_of_ble_eq_true rfl, Nat.le_of_ble_eq_true rfl⟩ d_Brow_75 (fun r M3 h3 => ?_)
      obtain ⟨rfl, rfl⟩ := h3
      exact r_iret hC d_Brow_78 (Nat.le_refl _) (Nat.le_refl _) ⟨_, rfl, hr.2.2.2.1, rfl⟩
    · refine r_tableIn hC 79 d_Brow_25 (by decide) (by decide) rfl (by decide) ?_
      refine r_aload_n hC 3 d_Brow_79 rfl rfl ?_
      refine r_cVi hC [] rfl (c_Robject l Θ M2 (bR A i) hr.1) mi_Robject lk_B154 in_Robject (ci := 2) rfl rfl (by exact hr.1) rfl (Nat.le_of_ble_eq_true rfl) ⟨Nat.le_of_ble_eq_true rfl, Nat.le_of_ble_eq_true rfl⟩ ⟨Nat.le_of_ble_eq_true rfl, Nat.le_of_ble_eq_true rfl⟩ d_Brow_80 (fun r M3 h3 => ?_)
      obtain ⟨rfl, rfl⟩ := h3
      exact r_iret hC d_Brow_83 (Nat.le_refl _) (Nat.le_refl _) ⟨_, rfl, hr.2.2.2.2.2.1, rfl⟩
    · refine r_tableIn hC 84 d_Brow_25 (by decide) (by decide) rfl (by decide) ?_
      refine r_aload_n hC 3 d_Brow_84 rfl rfl ?_
      refine r_cVi hC [] rfl (c_Rto l Θ M2 (bR A i) hr.1) mi_Rto lk_B156 in_Rto (ci := 2) rfl rfl (by exact hr.1) rfl (Nat.le_of_ble_eq_true rfl) ⟨Nat.le_of_ble_eq_true rfl, Nat.le_of_ble_eq_true rfl⟩ ⟨Nat.le_of_ble_eq_true rfl, Nat.le_of_ble_eq_true rfl⟩ d_Brow_85 (fun r M3 h3 => ?_)
      obtain ⟨rfl, rfl⟩ := h3
      exact r_iret hC d_Brow_88 (Nat.le_refl _) (Nat.le_refl _) ⟨_, rfl, hr.2.2.2.2.2.2.1, rfl⟩
    · refine r_tableIn hC 89 d_Brow_25 (by decide) (by decide) rfl (by decide) ?_
      refine r_aload_n hC 3 d_Brow_89 rfl rfl ?_
      refine r_cVi hC [] rfl (c_Rbehind l Θ M2 (bR A i) hr.1) mi_Rbehind lk_B159 in_Rbehind (ci := 2) rfl rfl (by exact hr.1) rfl (Nat.le_of_ble_eq_true rfl) ⟨Nat.le_of_ble_eq_true rfl, Nat.le_of_ble_eq_true rfl⟩ ⟨Nat.le_of_ble_eq_true rfl, Nat.le_of_ble_eq_true rfl⟩ d_Brow_90 (fun r M3 h3 => ?_)
      obtain ⟨rfl, rfl⟩ := h3
      exact r_iret hC d_Brow_93 (Nat.le_refl _) (Nat.le_refl _) ⟨_, rfl, hr.2.2.2.2.2.2.2, rfl⟩
    · refine r_tableOut hC 94 d_Brow_25 hy (by decide) ?_
      refine r_iconst hC (-1) d_Brow_94 (by decide) ?_
      exact r_iret hC d_Brow_95 (Nat.le_refl _) (Nat.le_refl _) ⟨_, rfl, by unfold rowF; rw [if_neg y0, if_neg y1, if_neg y2, if_neg y3, if_neg y4, if_neg y5], rfl⟩
  · have ea : aRow G x y = -1 := by unfold aRow; rw [e]
    rw [e, ea]
    refine r_if_ne hC 10 d_Brow_5 (by decide) (fun z => absurd rfl z) (fun _ => ?_)
    refine r_iconst hC (-1) d_Brow_8 (by decide) ?_
    exact r_iret hC d_Brow_9 (Nat.le_refl _) (Nat.le_refl _) ⟨_, rfl, rfl, rfl⟩
theorem c_Bplace (l : Launch) (Θ : Glob) (M : Mem) (X : Nat) (A : BA) (G : GS) (hG : GI G) (hB : BT M X A G) (x y : Int32) : Ct l Θ y_Bplace 3 0 0 [.ref X, .int x, .int y] M (pR fun r M1 => r = (plF G x y).map (fun q => nA (bD A q.1) q.2) ∧ M1 = M) := by
  obtain ⟨⟨⟨a1, a2, a3, a4, a5, a6⟩, ⟨b1, b2⟩, ⟨c1, c2, c3, c4⟩, ⟨e1, e2, e3, e4⟩⟩, hRw, hGl, hNd⟩ := hB
  have hn300 := hG.1.1
  have hsz := b1.len
  rw [rwL_len] at hsz
  refine Ct.start (cc := b_Bplace) (nL := 3) (ret := (some (.object "BinTrees$Place"))) [some (.ref X), some (.int x), some (.int y)] mi_Bplace.1 (by decide +kernel) (by intro v hv; simp at hv; rcases hv with rfl | rfl | rfl <;> rfl) (by simp) rfl (fun p e s m args below meth c hC => ?_)
  have nul : plF G x y = none → Gj p l e (rmo 3 0 0) s m args below meth c Θ M [some (.ref X), some (.int x), some (.int y)] 0 0 (Fn below args s Θ 0 0 (pR fun r M1 => r = (plF G x y).map (fun q => nA (bD A q.1) q.2) ∧ M1 = M)) 48 [] := by
    intro hp
    rw [hp]
    refine r_null hC d_Bplace_48 ?_
    exact r_aret hC (r := none) rfl d_Bplace_49 (Nat.le_refl _) (Nat.le_refl _) ⟨_, rfl, rfl, rfl⟩
  refine r_iload_n hC 1 d_Bplace_0 rfl rfl ?_
  refine r_iconst hC 4 d_Bplace_1 (by decide) ?_
  refine r_cSi hC [.int x, .int (nI 4)] rfl (c_BisIn l Θ M x 4 (by omega)) mi_BisIn lk_B56 in_BisIn rfl (Nat.le_of_ble_eq_true rfl) ⟨Nat.le_of_ble_eq_true rfl, Nat.le_of_ble_eq_true rfl⟩ ⟨Nat.le_of_ble_eq_true rfl, Nat.le_of_ble_eq_true rfl⟩ d_Bplace_2 (fun r M1 h1 => ?_)
  obtain ⟨rfl, rfl⟩ := h1
  rcases ix_cases 4 x (by omega) with ⟨k, hk, rfl, e⟩ | ⟨-, e⟩
  · rw [e]
    refine r_if_eq hC 48 d_Bplace_5 (by decide) (fun z => absurd z i10) (fun _ => ?_)
    refine r_iload_n hC 2 d_Bplace_8 rfl rfl ?_
    refine r_bipush hC 40 d_Bplace_9 (by decide) ?_
    refine r_cSi hC [.int y, .int (nI 40)] rfl (c_BisIn l Θ M1 y 40 (by omega)) mi_BisIn lk_B56 in_BisIn rfl (Nat.le_of_ble_eq_true rfl) ⟨Nat.le_of_ble_eq_true rfl, Nat.le_of_ble_eq_true rfl⟩ ⟨Nat.le_of_ble_eq_true rfl, Nat.le_of_ble_eq_true rfl⟩ d_Bplace_11 (fun r M2 h2 => ?_)
    obtain ⟨rfl, rfl⟩ := h2
    rcases ix_cases 40 y (by omega) with ⟨o, ho, rfl, e2⟩ | ⟨-, e2⟩
    · rw [e2]
      obtain ⟨hX, -, -, -, -, -⟩ := hNd k hk
      have hT := hX.1.1
      have hP := hX.2.1
      have h36 := (hP.1 o (by omega)).2.2.2.2.2
      refine r_if_eq hC 48 d_Bplace_14 (by decide) (fun z => absurd z i10) (fun _ => ?_)
      refine r_aload_n hC 0 d_Bplace_17 rfl rfl ?_
      refine r_getS hC 0 1 1 fl_B18 (by exact a1) d_Bplace_18 rfl rfl (by exact a4) ?_
      refine r_iload_n hC 1 d_Bplace_21 rfl rfl ?_
      refine r_aaldS hC 5 k (by rw [c1]; rfl) (by omega) rfl (by rw [c3]; exact hk) (by rw [c3]; omega) d_Bplace_22 (c4 k hk) ?_
      refine r_getS hC 4 1 129 fl_B108 (by exact hT.1) d_Bplace_23 rfl rfl (by exact hT.2.1) ?_
      refine r_iload_n hC 2 d_Bplace_26 rfl rfl ?_
      refine r_aaldS hC 3 o (by rw [hT.2.2.2.2.2.2.1]; rfl) (by omega) rfl (by rw [hT.2.2.2.2.2.2.2.1]; exact ho) (by rw [hT.2.2.2.2.2.2.2.1]; omega) d_Bplace_27 (hT.2.2.2.2.2.2.2.2 o ho) ?_
      refine r_getI hC 1 4 36 fl_B112 (by exact hP.kp (by omega)) d_Bplace_28 rfl rfl (by exact h36) ?_
      refine r_if_eq hC 48 d_Bplace_31 (by decide) (fun z => nul ?_) (fun z => ?_)
      · unfold plF; rw [e, e2]; exact if_neg (fun q => by rw [show th (tr G k) o = _ from b2i_eq z] at q; cases q)
      · have hp : plF G (nI k) (nI o) = some (k, o) := by unfold plF; rw [e, e2]; exact if_pos (b2i_ne z)
        rw [hp]
        refine r_aload_n hC 0 d_Bplace_34 rfl rfl ?_
        refine r_getS hC 0 1 1 fl_B18 (by exact a1) d_Bplace_35 rfl rfl (by exact a4) ?_
        refine r_iload_n hC 1 d_Bplace_38 rfl rfl ?_
        refine r_aaldS hC 5 k (by rw [c1]; rfl) (by omega) rfl (by rw [c3]; exact hk) (by rw [c3]; omega) d_Bplace_39 (c4 k hk) ?_
        refine r_getS hC 4 1 129 fl_B108 (by exact hT.1) d_Bplace_40 rfl rfl (by exact hT.2.1) ?_
        refine r_iload_n hC 2 d_Bplace_43 rfl rfl ?_
        refine r_aaldS hC 3 o (by rw [hT.2.2.2.2.2.2.1]; rfl) (by omega) rfl (by rw [hT.2.2.2.2.2.2.2.1]; exact ho) (by rw [hT.2.2.2.2.2.2.2.1]; omega) d_Bplace_44 (hT.2.2.2.2.2.2.2.2 o ho) ?_
        refine r_goto hC 49 d_Bplace_45 (by decide) ?_
        exact r_aret hC (r := some (nA (bD A k) o)) rfl d_Bplace_49 (Nat.le_refl _) (Nat.le_refl _) ⟨_, rfl, rfl, rfl⟩
    · rw [e2]
      refine r_if_eq hC 48 d_Bplace_14 (by decide) (fun _ => nul ?_) (fun z => absurd rfl z)
      unfold plF; rw [e, e2]
  · rw [e]
    refine r_if_eq hC 48 d_Bplace_5 (by decide) (fun _ => nul ?_) (fun z => absurd rfl z)
    unfold plF; rw [e]
