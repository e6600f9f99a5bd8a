theorem c_Mwithin (l : Launch) (Θ : Glob) (M : Mem) (x a b : Int32) : Ct l Θ y_Mwithin 1 0 0 [.int x, .int a, .int b] M (pI fun r M1 => r = b2i (decide (a ≤ x) && decide (x ≤ b)) ∧ M1 = M) := by
  refine Ct.start (cc := b_Mwithin) (nL := 3) (ret := (some .boolean)) [some (.int x), some (.int a), some (.int b)] mi_Mwithin.1 (by decide +kernel) (by intro v hv; simp at hv; rcases hv with rfl | rfl | rfl <;> rfl) (by simp) rfl (fun p e s m args below meth c hC => ?_)
  refine r_iload_n hC 0 d_Mwithin_0 rfl rfl ?_
  refine r_iload_n hC 1 d_Mwithin_1 rfl rfl ?_
  refine r_icmp_lt hC 14 d_Mwithin_2 (by decide) (fun z => ?_) (fun z => ?_)
  · rw [decide_eq_false (Int32.not_le.mpr z)]
    refine r_iconst hC 0 d_Mwithin_14 (by decide) ?_
    exact r_zret hC d_Mwithin_15 (Or.inl rfl) (Nat.le_refl _) (Nat.le_refl _) ⟨_, rfl, rfl, rfl⟩
  · rw [decide_eq_true (Int32.not_lt.mp z)]
    refine r_iload_n hC 0 d_Mwithin_5 rfl rfl ?_
    refine r_iload_n hC 2 d_Mwithin_6 rfl rfl ?_
    refine r_icmp_gt hC 14 d_Mwithin_7 (by decide) (fun z2 => ?_) (fun z2 => ?_)
    · rw [decide_eq_false (Int32.not_le.mpr z2)]
      refine r_iconst hC 0 d_Mwithin_14 (by decide) ?_
      exact r_zret hC d_Mwithin_15 (Or.inl rfl) (Nat.le_refl _) (Nat.le_refl _) ⟨_, rfl, rfl, rfl⟩
    · rw [decide_eq_true (Int32.not_lt.mp z2)]
      refine r_iconst hC 1 d_Mwithin_10 (by decide) ?_
      refine r_goto hC 15 d_Mwithin_11 (by decide) ?_
      exact r_zret hC d_Mwithin_15 (Or.inr rfl) (Nat.le_refl _) (Nat.le_refl _) ⟨_, rfl, rfl, rfl⟩
theorem wi_ix {x : Int32} {m : Nat} (hm : m + 1 < 2 ^ 31) : (decide (0 ≤ x) && decide (x ≤ nI m)) = (ix (m + 1) x).isSome := by
  rcases ix_cases (m + 1) x hm with ⟨j, hj, rfl, e⟩ | ⟨h, e⟩
  · rw [e, decide_eq_true (nI_pos' (by omega)), decide_eq_true (nI_le (by omega) (by omega))]; rfl
  · rw [e]
    rcases h with h | h
    · rw [decide_eq_false (Int32.not_le.mpr h)]; rfl
    · rw [decide_eq_false (p := x ≤ nI m) (fun q => ?_), Bool.and_false]; rfl
      rw [Int32.le_iff_toInt_le, nI_toInt (by omega)] at h q
      omega
theorem wi_rx {x : Int32} {n : Nat} (hn : n < 2 ^ 30) : (decide (1 ≤ x) && decide (x ≤ nI n)) = (rx n x).isSome := by
  rcases rx_cases n x hn with ⟨i, h1, h2, rfl, e⟩ | ⟨h, e⟩
  · rw [e, decide_eq_true (show (1 : Int32) ≤ nI i from nI_le (a := 1) h1 (by omega)), decide_eq_true (nI_le h2 (by omega))]; rfl
  · rw [e]
    rcases h with h | h
    · rw [decide_eq_false (p := 1 ≤ x) (fun q => ?_)]; rfl
      exact absurd (Int32.le_trans q h) (by decide)
    · rw [decide_eq_false (Int32.not_le.mpr h), Bool.and_false]; rfl
theorem c_MisNode (l : Launch) (Θ : Glob) (M : Mem) (x : Int32) : Ct l Θ y_MisNode 2 0 0 [.int x] M (pI fun r M1 => r = b2i (ix 4 x).isSome ∧ M1 = M) := by
  refine Ct.start (cc := b_MisNode) (nL := 1) (ret := (some .boolean)) [some (.int x)] mi_MisNode.1 (by decide +kernel) (by intro v hv; simp at hv; rcases hv with rfl <;> rfl) (by simp) rfl (fun p e s m args below meth c hC => ?_)
  refine r_iload_n hC 0 d_MisNode_0 rfl rfl ?_
  refine r_iconst hC 0 d_MisNode_1 (by decide) ?_
  refine r_iconst hC 3 d_MisNode_2 (by decide) ?_
  refine r_cSi hC [.int x, .int 0, .int (nI 3)] rfl (c_Mwithin l Θ M x 0 (nI 3)) mi_Mwithin lk_M148 in_Mwithin rfl (Nat.le_of_ble_eq_true rfl) ⟨Nat.le_of_ble_eq_true rfl, Nat.le_of_ble_eq_true rfl⟩ ⟨Nat.le_of_ble_eq_true rfl, Nat.le_of_ble_eq_true rfl⟩ d_MisNode_3 (fun r M1 h1 => ?_)
  obtain ⟨rfl, rfl⟩ := h1
  rw [wi_ix (m := 3) (by omega)]
  exact r_zret hC d_MisNode_6 (by cases (ix 4 x).isSome <;> simp [b2i]) (Nat.le_refl _) (Nat.le_refl _) ⟨_, rfl, rfl, rfl⟩
theorem c_MknowsRow (l : Launch) (Θ : Glob) (M : Mem) (Y : Nat) (ar : Nat → Nat) (V : Nat → Nat → Int32) (I : Nat → Int32) (hV : MV M Y ar V I) (kk r : Nat) (hk : kk < 4) (hr : r < 301) (b : Bool) (hb : V 169 (301 * kk + r) = b2i b) : Ct l Θ y_MknowsRow 1 0 0 [.ref Y, .int (nI kk), .int (nI r)] M (pI fun r M1 => r = b2i b ∧ M1 = M) := by
  refine Ct.start (cc := b_MknowsRow) (nL := 3) (ret := (some .boolean)) [some (.ref Y), some (.int (nI kk)), some (.int (nI r))] mi_MknowsRow.1 (by decide +kernel) (by intro v hv; simp at hv; rcases hv with rfl | rfl | rfl <;> rfl) (by simp) rfl (fun p e s m args below meth c hC => ?_)
  refine r_aload_n hC 0 d_MknowsRow_0 rfl rfl ?_
  refine r_getS hC 5 9 169 fl_M32 (by exact hV.k) d_MknowsRow_1 rfl rfl (by exact (hV.rf 169 (by decide))) ?_
  refine r_sipush hC 301 d_MknowsRow_4 (by decide) ?_
  refine r_iload_n hC 1 d_MknowsRow_7 rfl rfl ?_
  refine r_imul hC (nI (301 * kk)) d_MknowsRow_8 (pk_mul 301 kk) ?_
  refine r_iload_n hC 2 d_MknowsRow_9 rfl rfl ?_
  refine r_iadd hC (nI (301 * kk + r)) d_MknowsRow_10 (nI_add _ _) ?_
  refine r_zald hC (301 * kk + r) (hV.ak 169 (by decide)) rfl (by rw [hV.al 169 (by decide)]; exact (show 301 * kk + r < mLn 169 from (by show 301 * kk + r < 1204; omega))) (by rw [hV.al 169 (by decide)]; decide) d_MknowsRow_11 (hV.el 169 (by decide) (301 * kk + r)) ?_
  rw [hb]
  exact r_zret hC d_MknowsRow_12 (by cases b <;> simp [b2i]) (Nat.le_refl _) (Nat.le_refl _) ⟨_, rfl, rfl, rfl⟩
theorem c_MisBefore (l : Launch) (Θ : Glob) (M : Mem) (Y : Nat) (ar : Nat → Nat) (V : Nat → Nat → Int32) (I : Nat → Int32) (hV : MV M Y ar V I) (a b : Nat) (ha : a < 301) (hb : b < 301) (wa wb : RowT) (ta : V 164 a = nI (rT wa)) (tb : V 164 b = nI (rT wb)) (xa : V 163 a = nI (rW wa)) (xb : V 163 b = nI (rW wb)) (h1 : rT wa < 2 ^ 30) (h2 : rT wb < 2 ^ 30) (h3 : rW wa < 2 ^ 30) (h4 : rW wb < 2 ^ 30) : Ct l Θ y_MisBefore 1 0 0 [.ref Y, .int (nI a), .int (nI b)] M (pI fun r M1 => r = b2i (bef wa wb) ∧ M1 = M) := by
  refine Ct.start (cc := b_MisBefore) (nL := 3) (ret := (some .boolean)) [some (.ref Y), some (.int (nI a)), some (.int (nI b))] mi_MisBefore.1 (by decide +kernel) (by intro v hv; simp at hv; rcases hv with rfl | rfl | rfl <;> rfl) (by simp) rfl (fun p e s m args below meth c hC => ?_)
  refine r_aload_n hC 0 d_MisBefore_0 rfl rfl ?_
  refine r_getS hC 5 4 164 fl_M16 (by exact hV.k) d_MisBefore_1 rfl rfl (by exact (hV.rf 164 (by decide))) ?_
  refine r_iload_n hC 1 d_MisBefore_4 rfl rfl ?_
  refine r_iald hC (a) (hV.ak 164 (by decide)) rfl (by rw [hV.al 164 (by decide)]; exact (show a < mLn 164 from (by show a < 301; omega))) (by rw [hV.al 164 (by decide)]; decide) d_MisBefore_5 (hV.el 164 (by decide) (a)) ?_
  refine r_aload_n hC 0 d_MisBefore_6 rfl rfl ?_
  refine r_getS hC 5 4 164 fl_M16 (by exact hV.k) d_MisBefore_7 rfl rfl (by exact (hV.rf 164 (by decide))) ?_
  refine r_iload_n hC 2 d_MisBefore_10 rfl rfl ?_
  refine r_iald hC (b) (hV.ak 164 (by decide)) rfl (by rw [hV.al 164 (by decide)]; exact (show b < mLn 164 from (by show b < 301; omega))) (by rw [hV.al 164 (by decide)]; decide) d_MisBefore_11 (hV.el 164 (by decide) (b)) ?_
  rw [ta, tb]
  refine r_icmp_eq hC 38 d_MisBefore_12 (by decide) (fun z => ?_) (fun z => ?_)
  · have e := (nI_eq (by omega) (by omega)).mp z
    refine r_aload_n hC 0 d_MisBefore_38 rfl rfl ?_
    refine r_getS hC 5 3 163 fl_M13 (by exact hV.k) d_MisBefore_39 rfl rfl (by exact (hV.rf 163 (by decide))) ?_
    refine r_iload_n hC 1 d_MisBefore_42 rfl rfl ?_
    refine r_iald hC (a) (hV.ak 163 (by decide)) rfl (by rw [hV.al 163 (by decide)]; exact (show a < mLn 163 from (by show a < 301; omega))) (by rw [hV.al 163 (by decide)]; decide) d_MisBefore_43 (hV.el 163 (by decide) (a)) ?_
    refine r_aload_n hC 0 d_MisBefore_44 rfl rfl ?_
    refine r_getS hC 5 3 163 fl_M13 (by exact hV.k) d_MisBefore_45 rfl rfl (by exact (hV.rf 163 (by decide))) ?_
    refine r_iload_n hC 2 d_MisBefore_48 rfl rfl ?_
    refine r_iald hC (b) (hV.ak 163 (by decide)) rfl (by rw [hV.al 163 (by decide)]; exact (show b < mLn 163 from (by show b < 301; omega))) (by rw [hV.al 163 (by decide)]; decide) d_MisBefore_49 (hV.el 163 (by decide) (b)) ?_
    rw [xa, xb]
    refine r_icmp_ge hC 57 d_MisBefore_50 (by decide) (fun z2 => ?_) (fun z2 => ?_)
    · have e2 := (nI_leI (by omega) (by omega)).mp z2
      rw [bef_f.mpr (by unfold befP; omega)]
      refine r_iconst hC 0 d_MisBefore_57 (by decide) ?_
      exact r_zret hC d_MisBefore_58 (Or.inl rfl) (Nat.le_refl _) (Nat.le_refl _) ⟨_, rfl, rfl, rfl⟩
    · have e2 : ¬ rW wb ≤ rW wa := fun q => z2 (nI_le q (by omega))
      rw [bef_iff.mpr (by unfold befP; omega)]
      refine r_iconst hC 1 d_MisBefore_53 (by decide) ?_
      refine r_goto hC 58 d_MisBefore_54 (by decide) ?_
      exact r_zret hC d_MisBefore_58 (Or.inr rfl) (Nat.le_refl _) (Nat.le_refl _) ⟨_, rfl, rfl, rfl⟩
  · have e : rT wa ≠ rT wb := fun q => z (by rw [q])
    refine r_aload_n hC 0 d_MisBefore_15 rfl rfl ?_
    refine r_getS hC 5 4 164 fl_M16 (by exact hV.k) d_MisBefore_16 rfl rfl (by exact (hV.rf 164 (by decide))) ?_
    refine r_iload_n hC 1 d_MisBefore_19 rfl rfl ?_
    refine r_iald hC (a) (hV.ak 164 (by decide)) rfl (by rw [hV.al 164 (by decide)]; exact (show a < mLn 164 from (by show a < 301; omega))) (by rw [hV.al 164 (by decide)]; decide) d_MisBefore_20 (hV.el 164 (by decide) (a)) ?_
    refine r_aload_n hC 0 d_MisBefore_21 rfl rfl ?_
    refine r_getS hC 5 4 164 fl_M16 (by exact hV.k) d_MisBefore_22 rfl rfl (by exact (hV.rf 164 (by decide))) ?_
    refine r_iload_n hC 2 d_MisBefore_25 rfl rfl ?_
    refine r_iald hC (b) (hV.ak 164 (by decide)) rfl (by rw [hV.al 164 (by decide)]; exact (show b < mLn 164 from (by show b < 301; omega))) (by rw [hV.al 164 (by decide)]; decide) d_MisBefore_26 (hV.el 164 (by decide) (b)) ?_
    rw [ta, tb]
    refine r_icmp_ge hC 34 d_MisBefore_27 (by decide) (fun z2 => ?_) (fun z2 => ?_)
    · have e2 := (nI_leI (by omega) (by omega)).mp z2
      rw [bef_f.mpr (by unfold befP; omega)]
      refine r_iconst hC 0 d_MisBefore_34 (by decide) ?_
      refine r_goto hC 58 d_MisBefore_35 (by decide) ?_
      exact r_zret hC d_MisBefore_58 (Or.inl rfl) (Nat.le_refl _) (Nat.le_refl _) ⟨_, rfl, rfl, rfl⟩
    · have e2 : ¬ rT wb ≤ rT wa := fun q => z2 (nI_le q (by omega))
      rw [bef_iff.mpr (by unfold befP; omega)]
      refine r_iconst hC 1 d_MisBefore_30 (by decide) ?_
      refine r_goto hC 58 d_MisBefore_31 (by decide) ?_
      exact r_zret hC d_MisBefore_58 (Or.inr rfl) (Nat.le_refl _) (Nat.le_refl _) ⟨_, rfl, rfl, rfl⟩
/-- the model holds the rows and what the nodes know -/
def MR (V : Nat → Nat → Int32) (I : Nat → Int32) (n : Nat) (R : Nat → RowT) (K : Nat → Nat → Bool) : Prop :=
  I 161 = nI n ∧ n ≤ 300 ∧ (∀ i, 1 ≤ i → i ≤ n → V 162 i = nI (rS (R i)) ∧ V 163 i = nI (rW (R i)) ∧ V 164 i = nI (rT (R i)) ∧ V 165 i = nI (rO (R i)) ∧ V 166 i = oO (rP (R i)) ∧ V 167 i = oO (rB (R i))) ∧ (∀ k i, k < 4 → i < 301 → V 169 (301 * k + i) = b2i (K k i)) ∧ ∀ i, rT (R i) < 2 ^ 30 ∧ rW (R i) < 2 ^ 30 ∧ rS (R i) < 2 ^ 30 ∧ (1 ≤ i → i ≤ n → rO (R i) < 2 ^ 30)
/-- someone undid r, and k knows it -/
def unK (n : Nat) (R : Nat → RowT) (K : Nat → Bool) (r : Nat) : Prop := ∃ u, 1 ≤ u ∧ u ≤ n ∧ rS (R u) = 4 ∧ rO (R u) = r ∧ K u = true
theorem c_MisUndone (l : Launch) (Θ : Glob) (M : Mem) (Y : Nat) (ar : Nat → Nat) (V : Nat → Nat → Int32) (I : Nat → Int32) (hV : MV M Y ar V I) (n : Nat) (R : Nat → RowT) (K : Nat → Nat → Bool) (hM : MR V I n R K) (kk r : Nat) (hk : kk < 4) (hr : r < 2 ^ 30) : Ct l Θ y_MisUndone 2 0 0 [.ref Y, .int (nI kk), .int (nI r)] M (pI fun v M1 => v = b2i (dm (unK n R (K kk) r)) ∧ M1 = M) := by
  obtain ⟨hn, hn3, hrw, hkn, hbd⟩ := hM
  refine Ct.start (cc := b_MisUndone) (nL := 4) (ret := (some .boolean)) [some (.ref Y), some (.int (nI kk)), some (.int (nI r)), none] mi_MisUndone.1 (by decide +kernel) (by intro v hv; simp at hv; rcases hv with rfl | rfl | rfl <;> rfl) (by simp) rfl (fun p e s m args below meth c hC => ?_)
  have loop : ∀ (c2 i : Nat), i + c2 = n → (∀ u, 1 ≤ u → u ≤ i → ¬ (rS (R u) = 4 ∧ rO (R u) = r ∧ K kk u = true)) → Gj p l e (rmo 2 0 0) s m args below meth c Θ M [some (.ref Y), some (.int (nI kk)), some (.int (nI r)), some (.int (nI (i + 1)))] 0 0 (Fn below args s Θ 0 0 (pI fun v M1 => v = b2i (dm (unK n R (K kk) r)) ∧ M1 = M)) 2 [] := by
    intro c2
    induction c2 with
    | zero =>
      intro i hi hno
      have hi : i = n := hi
      subst hi
      rw [dm_f (fun ⟨u, u1, u2, u3⟩ => hno u u1 u2 u3)]
      refine r_iload_n hC 3 d_MisUndone_2 rfl rfl ?_
      refine r_aload_n hC 0 d_MisUndone_3 rfl rfl ?_
      refine r_getI hC 5 1 161 fl_M81 (by exact hV.k) d_MisUndone_4 rfl rfl (by exact (hV.fi 161 (by decide))) ?_
      rw [hn]
      refine r_icmp_gt hC 47 d_MisUndone_7 (by decide) (fun _ => ?_) (fun z => absurd (nI_lt (by omega) (by omega)) z)
      refine r_iconst hC 0 d_MisUndone_47 (by decide) ?_
      exact r_zret hC d_MisUndone_48 (Or.inl rfl) (Nat.le_refl _) (Nat.le_refl _) ⟨_, rfl, rfl, rfl⟩
    | succ c2 ih =>
      intro i hi hno
      obtain ⟨e1, e2, e3, e4, e5, e6⟩ := hrw (i + 1) (by omega) (by omega)
      obtain ⟨b1, b2, b3, b4⟩ := hbd (i + 1)
      have b4 := b4 (by omega) (by omega)
      have next : ¬ (rS (R (i + 1)) = 4 ∧ rO (R (i + 1)) = r ∧ K kk (i + 1) = true) → Gj p l e (rmo 2 0 0) s m args below meth c Θ M [some (.ref Y), some (.int (nI kk)), some (.int (nI r)), some (.int (nI (i + 1)))] 0 0 (Fn below args s Θ 0 0 (pI fun v M1 => v = b2i (dm (unK n R (K kk) r)) ∧ M1 = M)) 41 [] := by
        intro hn2
        refine r_ii3 hC (nI (i + 1 + 1)) d_MisUndone_41 (nI_1 _) ?_
        refine r_goto hC 2 d_MisUndone_44 (by decide) ?_
        refine ih (i + 1) (by omega) (fun u u1 u2 => ?_)
        by_cases e : u = i + 1
        · rw [e]; exact hn2
        · exact hno u u1 (by omega)
      refine r_iload_n hC 3 d_MisUndone_2 rfl rfl ?_
      refine r_aload_n hC 0 d_MisUndone_3 rfl rfl ?_
      refine r_getI hC 5 1 161 fl_M81 (by exact hV.k) d_MisUndone_4 rfl rfl (by exact (hV.fi 161 (by decide))) ?_
      rw [hn]
      refine r_icmp_gt hC 47 d_MisUndone_7 (by decide) (fun z => absurd z (nI_nlt (by omega) (by omega))) (fun _ => ?_)
      refine r_aload_n hC 0 d_MisUndone_10 rfl rfl ?_
      refine r_getS hC 5 2 162 fl_M7 (by exact hV.k) d_MisUndone_11 rfl rfl (by exact (hV.rf 162 (by decide))) ?_
      refine r_iload_n hC 3 d_MisUndone_14 rfl rfl ?_
      refine r_iald hC (i + 1) (hV.ak 162 (by decide)) rfl (by rw [hV.al 162 (by decide)]; exact (show i + 1 < mLn 162 from (by show i + 1 < 301; omega))) (by rw [hV.al 162 (by decide)]; decide) d_MisUndone_15 (hV.el 162 (by decide) (i + 1)) ?_
      refine r_iconst hC 4 d_MisUndone_16 (by decide) ?_
      rw [e1]
      refine r_icmp_ne hC 41 d_MisUndone_17 (by decide) (fun z => next (fun q => z (by rw [q.1]; rfl))) (fun z => ?_)
      have s4 := (nI_eq (b := 4) (by omega) (by omega)).mp z
      refine r_aload_n hC 0 d_MisUndone_20 rfl rfl ?_
      refine r_getS hC 5 5 165 fl_M19 (by exact hV.k) d_MisUndone_21 rfl rfl (by exact (hV.rf 165 (by decide))) ?_
      refine r_iload_n hC 3 d_MisUndone_24 rfl rfl ?_
      refine r_iald hC (i + 1) (hV.ak 165 (by decide)) rfl (by rw [hV.al 165 (by decide)]; exact (show i + 1 < mLn 165 from (by show i + 1 < 301; omega))) (by rw [hV.al 165 (by decide)]; decide) d_MisUndone_25 (hV.el 165 (by decide) (i + 1)) ?_
      refine r_iload_n hC 2 d_MisUndone_26 rfl rfl ?_
      rw [e4]
      refine r_icmp_ne hC 41 d_MisUndone_27 (by decide) (fun z => next (fun q => z (by rw [q.2.1]))) (fun z => ?_)
      have o4 := (nI_eq (by omega) (by omega)).mp z
      refine r_aload_n hC 0 d_MisUndone_30 rfl rfl ?_
      refine r_iload_n hC 1 d_MisUndone_31 rfl rfl ?_
      refine r_iload_n hC 3 d_MisUndone_32 rfl rfl ?_
      refine r_cVi hC [.int (nI kk), .int (nI (i + 1))] rfl (c_MknowsRow l Θ M Y ar V I hV kk (i + 1) hk (by omega) (K kk (i + 1)) (hkn kk (i + 1) hk (by omega))) mi_MknowsRow lk_M84 in_MknowsRow (ci := 5) rfl rfl (by exact hV.k) rfl (Nat.le_of_ble_eq_true rfl) ⟨Nat.le_of_ble_eq_true rfl, Nat.le_of_ble_eq_true rfl⟩ ⟨Nat.le_of_ble_eq_true rfl, Nat.le_of_ble_eq_true rfl⟩ d_MisUndone_33 (fun v M1 h1 => ?_)
      obtain ⟨rfl, rfl⟩ := h1
      refine r_if_eq hC 41 d_MisUndone_36 (by decide) (fun z => next (fun q => by rw [q.2.2] at z; exact i10 z)) (fun z => ?_)
      rw [dm_t ⟨i + 1, by omega, by omega, s4, o4, b2i_ne z⟩]
      refine r_iconst hC 1 d_MisUndone_39 (by decide) ?_
      exact r_zret hC d_MisUndone_40 (Or.inr rfl) (Nat.le_refl _) (Nat.le_refl _) ⟨_, rfl, rfl, rfl⟩
  refine r_iconst hC 1 d_MisUndone_0 (by decide) ?_
  refine r_is3 hC d_MisUndone_1 ?_
  exact loop n 0 (by omega) (fun u u1 u2 => by omega)
