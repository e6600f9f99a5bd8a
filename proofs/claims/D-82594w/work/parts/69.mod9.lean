theorem lkL_cnt (R : Nat → RowT) (P : Nat → Bool) : ∀ n, (lkL R P n).length = knC P n
  | 0 => rfl
  | n + 1 => by
    have ih := lkL_cnt R P n
    rw [knC_s, ← ih]
    show (if P (n + 1) = true then insN R (n + 1) (lkL R P n) else lkL R P n).length = _
    by_cases h : P (n + 1) = true
    · rw [if_pos h, if_pos h, insN_len]
    · rw [if_neg h, if_neg h]; rfl
/-- the rows not before t, in a sorted list that has t -/
theorem cnt_from {R : Nat → RowT} {n : Nat} (hR : RI R n) {K : Nat → Bool} {xs : List Nat} (hs : srt R xs) (hx : ∀ i, i ∈ xs ↔ (1 ≤ i ∧ i ≤ n ∧ K i = true ∧ rS (R i) ≠ 4)) {t : Nat} (ht : t ∈ xs) : knC (fun x => K x && (decide (rS (R x) ≠ 4) && !bef (R x) (R t))) n = xs.length - xs.idxOf t := by
  have hix : xs.idxOf t < xs.length := List.idxOf_lt_length_of_mem ht
  have hsp : xs = xs.take (xs.idxOf t) ++ t :: xs.drop (xs.idxOf t + 1) := by
    have : xs.drop (xs.idxOf t) = t :: xs.drop (xs.idxOf t + 1) := by rw [List.drop_eq_getElem_cons hix, List.getElem_idxOf hix]
    rw [← this, List.take_append_drop]
  have hp := hs
  unfold srt at hp
  rw [hsp, List.pairwise_append] at hp
  obtain ⟨hp1, hp2, hp3⟩ := hp
  obtain ⟨hp4, hp5⟩ := List.pairwise_cons.mp hp2
  have e : lkL R (fun x => K x && (decide (rS (R x) ≠ 4) && !bef (R x) (R t))) n = t :: xs.drop (xs.idxOf t + 1) := by
    refine srt_uni (lkL_srt hR _ n (Nat.le_refl _)) hp2 (fun i => ?_)
    rw [lkL_mem]
    constructor
    · rintro ⟨a, b, c⟩
      rw [Bool.and_eq_true, Bool.and_eq_true] at c
      have hi : i ∈ xs := (hx i).mpr ⟨a, b, c.1, of_decide_eq_true c.2.1⟩
      rw [hsp] at hi
      rcases List.mem_append.mp hi with q | q
      · have := bef_iff.mpr (hp3 i q t List.mem_cons_self)
        rw [this] at c
        exact absurd c.2.2 (by decide)
      · exact q
    · intro hi
      have him : i ∈ xs := by rw [hsp]; exact List.mem_append_right _ hi
      obtain ⟨a, b, c, d⟩ := (hx i).mp him
      refine ⟨a, b, ?_⟩
      have hnb : bef (R i) (R t) = false := by
        rcases List.mem_cons.mp hi with q | q
        · rw [q]; exact bef_f.mpr befP.irr
        · exact bef_f.mpr (hp4 i q).asym
      rw [c, hnb, decide_eq_true d]; rfl
  have h2 := lkL_cnt R (fun x => K x && (decide (rS (R x) ≠ 4) && !bef (R x) (R t))) n
  rw [e] at h2
  rw [← h2, List.length_cons, List.length_drop]
  omega
/-- what costOf answers -/
def cF (R : Nat → RowT) (n : Nat) (K : Nat → Bool) (j : Nat) : Nat := if K (if rS (R j) = 4 then rO (R j) else j) = true then knC (fun x => K x && (decide (rS (R x) ≠ 4) && !bef (R x) (R (if rS (R j) = 4 then rO (R j) else j)))) n else 0
theorem cF_eq {R : Nat → RowT} {n : Nat} {N : NS} (hR : RI R n) (h : NI R n N) {j : Nat} (hj1 : 1 ≤ j) (hjn : j ≤ n) (hj : vK N j = false) (hm : vM N < n) : cF R n (va_up (vK N) j true) j = vO (lrn R N j) := by
  have h2 := NI.lrn hR h hj1 hjn hj hm
  have hK := lrn_K R N j
  have hx : ∀ i, i ∈ vN (lrn R N j) ↔ (1 ≤ i ∧ i ≤ n ∧ va_up (vK N) j true i = true ∧ rS (R i) ≠ 4) := fun i => by
    rw [h2.2.2.1 i, hK]
    constructor
    · rintro ⟨a, b⟩
      have h3 := h2.1 i (by rw [hK]; exact a)
      exact ⟨h3.1, h3.2, a, b⟩
    · rintro ⟨a, b, c, d⟩; exact ⟨c, d⟩
  by_cases hs : rS (R j) = 4
  · obtain ⟨t1, t2, t3, t4⟩ := hR.2.2.2.1 j hj1 hjn hs
    have hne : rO (R j) ≠ j := by omega
    unfold cF
    rw [if_pos hs, va_up_ne _ _ hne]
    cases hk : vK N (rO (R j)) with
    | true =>
      rw [if_pos rfl]
      have ht : rO (R j) ∈ vN (lrn R N j) := (hx _).mpr ⟨t1, by omega, by rw [va_up_ne _ _ hne]; exact hk, t3⟩
      rw [cnt_from hR h2.2.1 hx ht, lrn_1 hs hk]
    | false => rw [lrn_2 hs hk]; rfl
  · have ht : j ∈ vN (lrn R N j) := (hx j).mpr ⟨hj1, hjn, va_up_self _ _ _, hs⟩
    have hix : (vN (lrn R N j)).idxOf j = plc R j (vN N) := by
      have hple : plc R j (vN N) ≤ (vN N).length := tw_le
      refine ((idx_iff h2.2.1.nd ht).mp ?_).symm
      rw [lrn_N hs]
      have hl : ((vN N).take (plc R j (vN N))).length = plc R j (vN N) := by rw [List.length_take]; omega
      rw [List.getElem?_append_right (by omega), hl, Nat.sub_self]
      rfl
    have hln : (vN (lrn R N j)).length = (vN N).length + 1 := by rw [lrn_N hs]; exact ins_len R j (vN N)
    unfold cF
    rw [if_neg hs, va_up_self, if_pos rfl, cnt_from hR h2.2.1 hx ht, hix, hln, lrn_3 hs]
    have hple : plc R j (vN N) ≤ (vN N).length := tw_le
    show (vN N).length + 1 - plc R j (vN N) = (vN N).length - plc R j (vN N) + 1
    omega
theorem c_McostOf (l : Launch) (Θ : Glob) (M : Mem) (Y : Nat) (ar : Nat → Nat) (V : Nat → Nat → Int32) (I : Nat → Int32) (hV : MV M Y ar V I) (n : Nat) (R : Nat → RowT) (K : Nat → Nat → Bool) (hM : MR V I n R K) (hR : RI R n) (kk r : Nat) (hk : kk < 4) (hr1 : 1 ≤ r) (hrn : r ≤ n) : Ct l Θ y_McostOf 2 0 0 [.ref Y, .int (nI kk), .int (nI r)] M (pI fun v M1 => v = nI (cF R n (K kk) r) ∧ M1 = M) := by
  have hn3 := hR.1
  obtain ⟨hi1, -, hrw, hkn, hbd⟩ := hM
  have e0 := hrw r hr1 hrn
  have hb5 := (hR.2.1 r).2.2
  obtain ⟨fr, hfr⟩ : ∃ fr, fr = (if rS (R r) = 4 then rO (R r) else r) := ⟨_, rfl⟩
  have hfn : 1 ≤ fr ∧ fr ≤ n := by
    rw [hfr]
    split
    · next h => have := hR.2.2.2.1 r hr1 hrn h; omega
    · omega
  have hcF : cF R n (K kk) r = if K kk fr = true then knC (fun x => K kk x && (decide (rS (R x) ≠ 4) && !bef (R x) (R fr))) n else 0 := by unfold cF; rw [← hfr]
  have ef := hrw fr hfn.1 hfn.2
  refine Ct.start (cc := b_McostOf) (nL := 6) (ret := (some .int)) [some (.ref Y), some (.int (nI kk)), some (.int (nI r)), none, none, none] mi_McostOf.1 (by decide +kernel) (by intro v hv; simp at hv; rcases hv with rfl | rfl | rfl <;> rfl) (by simp) rfl (fun p e s m args below meth c hC => ?_)
  have loop : K kk fr = true → ∀ (c2 i : Nat), i + c2 = n → Gj p l e (rmo 2 0 0) s m args below meth c Θ M [some (.ref Y), some (.int (nI kk)), some (.int (nI r)), some (.int (nI fr)), some (.int (nI (knC (fun x => K kk x && (decide (rS (R x) ≠ 4) && !bef (R x) (R fr))) i))), some (.int (nI (i + 1)))] 0 0 (Fn below args s Θ 0 0 (pI fun v M1 => v = nI (cF R n (K kk) r) ∧ M1 = M)) 38 [] := by
    intro hkf c2
    rw [hcF, if_pos hkf]
    generalize hP : (fun x => K kk x && (decide (rS (R x) ≠ 4) && !bef (R x) (R fr))) = P
    induction c2 with
    | zero =>
      intro i hi
      have hi : i = n := hi
      subst hi
      refine r_iload hC 5 d_McostOf_38 rfl ?_
      refine r_aload_n hC 0 d_McostOf_40 rfl rfl ?_
      refine r_getI hC 5 1 161 fl_M81 (by exact hV.k) d_McostOf_41 rfl rfl (by exact (hV.fi 161 (by decide))) ?_
      rw [hi1]
      refine r_icmp_gt hC 87 d_McostOf_44 (by decide) (fun _ => ?_) (fun z => absurd (nI_lt (by omega) (by omega)) z)
      refine r_iload hC 4 d_McostOf_87 rfl ?_
      exact r_iret hC d_McostOf_89 (Nat.le_refl _) (Nat.le_refl _) ⟨_, rfl, rfl, rfl⟩
    | succ c2 ih =>
      intro i hi
      have ei := hrw (i + 1) (by omega) (by omega)
      have hb6 := (hR.2.1 (i + 1)).2.2
      have hks := knC_s P i
      have ih2 := ih (i + 1) (by omega)
      rw [hks] at ih2
      have hPi : P (i + 1) = (K kk (i + 1) && (decide (rS (R (i + 1)) ≠ 4) && !bef (R (i + 1)) (R fr))) := by rw [← hP]
      have skip : P (i + 1) = false → Gj p l e (rmo 2 0 0) s m args below meth c Θ M [some (.ref Y), some (.int (nI kk)), some (.int (nI r)), some (.int (nI fr)), some (.int (nI (knC P i))), some (.int (nI (i + 1)))] 0 0 (Fn below args s Θ 0 0 (pI fun v M1 => v = nI (knC P n) ∧ M1 = M)) 81 [] := by
        intro hf
        rw [hf] at ih2
        refine r_ii5 hC (nI (i + 1 + 1)) d_McostOf_81 (nI_1 _) ?_
        refine r_goto hC 38 d_McostOf_84 (by decide) ?_
        exact ih2
      refine r_iload hC 5 d_McostOf_38 rfl ?_
      refine r_aload_n hC 0 d_McostOf_40 rfl rfl ?_
      refine r_getI hC 5 1 161 fl_M81 (by exact hV.k) d_McostOf_41 rfl rfl (by exact (hV.fi 161 (by decide))) ?_
      rw [hi1]
      refine r_icmp_gt hC 87 d_McostOf_44 (by decide) (fun z => absurd z (nI_nlt (by omega) (by omega))) (fun _ => ?_)
      refine r_aload_n hC 0 d_McostOf_47 rfl rfl ?_
      refine r_iload_n hC 1 d_McostOf_48 rfl rfl ?_
      refine r_iload hC 5 d_McostOf_49 rfl ?_
      refine r_cVi hC [.int (nI kk), .int (nI (i + 1))] rfl (c_MknowsRow l Θ M Y ar V I hV kk (i + 1) hk (by omega) (K kk (i + 1)) (hkn kk (i + 1) hk (by omega))) mi_MknowsRow lk_M84 in_MknowsRow (ci := 5) rfl rfl (by exact hV.k) rfl (Nat.le_of_ble_eq_true rfl) ⟨Nat.le_of_ble_eq_true rfl, Nat.le_of_ble_eq_true rfl⟩ ⟨Nat.le_of_ble_eq_true rfl, Nat.le_of_ble_eq_true rfl⟩ d_McostOf_51 (fun v M1 h1 => ?_)
      obtain ⟨rfl, rfl⟩ := h1
      refine r_if_eq hC 81 d_McostOf_54 (by decide) (fun z => skip (by rw [hPi, b2i_eq z]; rfl)) (fun z => ?_)
      have hk1 := b2i_ne z
      refine r_aload_n hC 0 d_McostOf_57 rfl rfl ?_
      refine r_getS hC 5 2 162 fl_M7 (by exact hV.k) d_McostOf_58 rfl rfl (by exact (hV.rf 162 (by decide))) ?_
      refine r_iload hC 5 d_McostOf_61 rfl ?_
      refine r_iald hC (i + 1) (hV.ak 162 (by decide)) rfl (by rw [hV.al 162 (by decide)]; exact (show i + 1 < mLn 162 from (by show i + 1 < 301; omega))) (by rw [hV.al 162 (by decide)]; decide) d_McostOf_63 (hV.el 162 (by decide) (i + 1)) ?_
      refine r_iconst hC 4 d_McostOf_64 (by decide) ?_
      rw [ei.1]
      refine r_icmp_eq hC 81 d_McostOf_65 (by decide) (fun z => skip ?_) (fun z => ?_)
      · rw [hPi, decide_eq_false (fun w => w ((nI_eq (b := 4) (by omega) (by omega)).mp z)), Bool.false_and, Bool.and_false]
      have hs4 : rS (R (i + 1)) ≠ 4 := fun w => z (by rw [w]; rfl)
      refine r_aload_n hC 0 d_McostOf_68 rfl rfl ?_
      refine r_iload hC 5 d_McostOf_69 rfl ?_
      refine r_iload_n hC 3 d_McostOf_71 rfl rfl ?_
      refine r_cVi hC [.int (nI (i + 1)), .int (nI fr)] rfl (c_MisBefore l Θ M1 Y ar V I hV (i + 1) fr (by omega) (by omega) (R (i + 1)) (R fr) ei.2.2.1 ef.2.2.1 ei.2.1 ef.2.1 (hbd _).1 (hbd _).1 (hbd _).2.1 (hbd _).2.1) mi_MisBefore lk_M91 in_MisBefore (ci := 5) rfl rfl (by exact hV.k) rfl (Nat.le_of_ble_eq_true rfl) ⟨Nat.le_of_ble_eq_true rfl, Nat.le_of_ble_eq_true rfl⟩ ⟨Nat.le_of_ble_eq_true rfl, Nat.le_of_ble_eq_true rfl⟩ d_McostOf_72 (fun v M2 h2 => ?_)
      obtain ⟨rfl, rfl⟩ := h2
      refine r_if_ne hC 81 d_McostOf_75 (by decide) (fun z => skip (by rw [hPi, b2i_ne z]; simp)) (fun z => ?_)
      have hT : P (i + 1) = true := by rw [hPi, hk1, b2i_eq z, decide_eq_true hs4]; rfl
      rw [hT] at ih2
      refine r_ii4 hC (nI (knC P i + 1)) d_McostOf_78 (nI_1 _) ?_
      refine r_ii5 hC (nI (i + 1 + 1)) d_McostOf_81 (nI_1 _) ?_
      refine r_goto hC 38 d_McostOf_84 (by decide) ?_
      exact ih2
  have cont : Gj p l e (rmo 2 0 0) s m args below meth c Θ M [some (.ref Y), some (.int (nI kk)), some (.int (nI r)), none, none, none] 0 0 (Fn below args s Θ 0 0 (pI fun v M1 => v = nI (cF R n (K kk) r) ∧ M1 = M)) 20 [.int (nI fr)] := by
    refine r_is3 hC d_McostOf_20 ?_
    refine r_aload_n hC 0 d_McostOf_21 rfl rfl ?_
    refine r_iload_n hC 1 d_McostOf_22 rfl rfl ?_
    refine r_iload_n hC 3 d_McostOf_23 rfl rfl ?_
    refine r_cVi hC [.int (nI kk), .int (nI fr)] rfl (c_MknowsRow l Θ M Y ar V I hV kk fr hk (by omega) (K kk fr) (hkn kk fr hk (by omega))) mi_MknowsRow lk_M84 in_MknowsRow (ci := 5) rfl rfl (by exact hV.k) rfl (Nat.le_of_ble_eq_true rfl) ⟨Nat.le_of_ble_eq_true rfl, Nat.le_of_ble_eq_true rfl⟩ ⟨Nat.le_of_ble_eq_true rfl, Nat.le_of_ble_eq_true rfl⟩ d_McostOf_24 (fun v M1 h1 => ?_)
    obtain ⟨rfl, rfl⟩ := h1
    refine r_if_ne hC 32 d_McostOf_27 (by decide) (fun z => ?_) (fun z => ?_)
    · skip
      refine r_iconst hC 0 d_McostOf_32 (by decide) ?_
      refine r_is4 hC d_McostOf_33 ?_
      refine r_iconst hC 1 d_McostOf_35 (by decide) ?_
      refine r_is5 hC d_McostOf_36 ?_
      exact loop (b2i_ne z) n 0 (by omega)
    · rw [hcF, b2i_eq z]
      refine r_iconst hC 0 d_McostOf_30 (by decide) ?_
      exact r_iret hC d_McostOf_31 (Nat.le_refl _) (Nat.le_refl _) ⟨_, rfl, rfl, rfl⟩
  refine r_aload_n hC 0 d_McostOf_0 rfl rfl ?_
  refine r_getS hC 5 2 162 fl_M7 (by exact hV.k) d_McostOf_1 rfl rfl (by exact (hV.rf 162 (by decide))) ?_
  refine r_iload_n hC 2 d_McostOf_4 rfl rfl ?_
  refine r_iald hC (r) (hV.ak 162 (by decide)) rfl (by rw [hV.al 162 (by decide)]; exact (show r < mLn 162 from (by show r < 301; omega))) (by rw [hV.al 162 (by decide)]; decide) d_McostOf_5 (hV.el 162 (by decide) (r)) ?_
  refine r_iconst hC 4 d_McostOf_6 (by decide) ?_
  rw [e0.1]
  by_cases hs : rS (R r) = 4
  · rw [if_pos hs] at hfr
    refine r_icmp_ne hC 19 d_McostOf_7 (by decide) (fun z => absurd (by rw [hs]; rfl) z) (fun _ => ?_)
    refine r_aload_n hC 0 d_McostOf_10 rfl rfl ?_
    refine r_getS hC 5 5 165 fl_M19 (by exact hV.k) d_McostOf_11 rfl rfl (by exact (hV.rf 165 (by decide))) ?_
    refine r_iload_n hC 2 d_McostOf_14 rfl rfl ?_
    refine r_iald hC (r) (hV.ak 165 (by decide)) rfl (by rw [hV.al 165 (by decide)]; exact (show r < mLn 165 from (by show r < 301; omega))) (by rw [hV.al 165 (by decide)]; decide) d_McostOf_15 (hV.el 165 (by decide) (r)) ?_
    rw [e0.2.2.2.1, ← hfr]
    refine r_goto hC 20 d_McostOf_16 (by decide) ?_
    exact cont
  · rw [if_neg hs] at hfr
    refine r_icmp_ne hC 19 d_McostOf_7 (by decide) (fun _ => ?_) (fun z => absurd ((nI_eq (b := 4) (by omega) (by omega)).mp z) hs)
    rw [hfr] at cont
    refine r_iload_n hC 2 d_McostOf_19 rfl rfl ?_
    exact cont
