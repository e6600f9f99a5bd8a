theorem c_TlearnB (l : Launch) (Θ : Glob) (M : Mem) (d : NdA) (R : Nat → RowT) (ra sa : Nat → Nat) (kn U : Nat → Bool) (ns : List Nat) (cp : Nat → Nat) (mn tm co : Nat) (hN : ND M d R ra sa kn U ns cp mn tm co) (j : Nat) (hj1 : j < 301) (hkj : kn j = false) (hr : RwO M (ra j) j (R j)) (hb : ∀ i, rT (R i) < 2 ^ 30 ∧ rW (R i) < 2 ^ 30) (hb2 : rS (R j) < 5) (hmn2 : mn < 2 ^ 30) (htm2 : tm < 2 ^ 30) (hs4 : rS (R j) = 4) (ht1 : rO (R j) < 301) (ht2 : rO (R j) ≠ j) (ht3 : rS (R (rO (R j))) ≠ 4) (hkt0 : kn (rO (R j)) = false) (mc ms : Nat) (hmc : 1 ≤ mc) (hms : 7 ≤ ms) : Ct l Θ y_Tlearn 17 mc ms [.ref (nT d), .ref (ra j)] M (pV fun N => ∃ q, ND N d R ra (va_up sa j q) (va_up kn j true) (va_up U (rO (R j)) true) ns cp (mn + 1) (max tm (rT (R j))) 0 ∧ Fr (LZ M d) M N) := by
  obtain ⟨hX, hK, hU, ⟨hmn, htm, hco⟩, hSt, hns⟩ := hN
  have hT := hX.1.1
  refine Ct.start (cc := b_Tlearn) (nL := 5) (ret := none) [some (.ref (nT d)), some (.ref (ra j)), none, none, none] mi_Tlearn.1 (by decide +kernel) (by intro v hv; simp at hv; rcases hv with rfl | rfl <;> rfl) (by simp) rfl (fun p e s m args below meth c hC => ?_)
  refine r_aload_n hC 0 d_Tlearn_0 rfl rfl ?_
  refine r_dup hC d_Tlearn_1 rfl ?_
  refine r_getI hC 4 6 134 fl_T168 (by exact hT.1) d_Tlearn_2 rfl rfl (by exact hmn) ?_
  refine r_iconst hC 1 d_Tlearn_5 (by decide) ?_
  refine r_iadd hC (nI (mn + 1)) d_Tlearn_6 (nI_1 _) ?_
  refine r_putI hC 4 6 134 fl_T168 rfl (by exact hT.1) d_Tlearn_7 rfl rfl rfl rfl ?_
  have f1 := sI_fr M 134 (nT d) (nI (mn + 1))
  have hr1 := hr.fr f1 (one_ne hr.1 hT.1 (by omega))
  have a1 : fI (sI M 134 (nT d) (nI (mn + 1))) 134 (nT d) = nI (mn + 1) := up2_self _ _ _ _
  have a2 : fI (sI M 134 (nT d) (nI (mn + 1))) 135 (nT d) = nI tm := htm
  have hT1 : TrO (sI M 134 (nT d) (nI (mn + 1))) (nT d) (nP d) (nL d) (nK d) (nU d) (nA d) := hT
  generalize sI M 134 (nT d) (nI (mn + 1)) = M1 at f1 hr1 a1 a2 hT1 ⊢
  refine r_aload_n hC 0 d_Tlearn_10 rfl rfl ?_
  refine r_aload_n hC 0 d_Tlearn_11 rfl rfl ?_
  refine r_getI hC 4 7 135 fl_T171 (by exact hT1.1) d_Tlearn_12 rfl rfl (by exact a2) ?_
  refine r_aload_n hC 1 d_Tlearn_15 rfl rfl ?_
  refine r_cVi hC [] rfl (c_Rtime l Θ M1 (ra j) hr1.1) mi_Rtime lk_T174 in_Rtime (ci := 2) rfl rfl (by exact hr1.1) rfl (Nat.le_of_ble_eq_true rfl) ⟨Nat.le_of_ble_eq_true rfl, Nat.le_of_ble_eq_true rfl⟩ ⟨Nat.zero_le _, Nat.zero_le _⟩ d_Tlearn_16 (fun r M9 h9 => ?_)
  obtain ⟨rfl, rfl⟩ := h9
  rw [hr1.2.2.2.1]
  refine r_max hC rfl lk_T176 ma_max.1 ma_max.2.1 ma_max.2.2 d_Tlearn_19 (Nat.le_of_ble_eq_true rfl) (Nat.le_of_ble_eq_true rfl) (Nat.zero_le _) (Nat.zero_le _) (nI_max (by omega) (by have := (hb j).1; omega)) ?_
  refine r_putI hC 4 7 135 fl_T171 rfl (by exact hT1.1) d_Tlearn_22 rfl rfl rfl rfl ?_
  have f2 := f1.trans (sI_fr M9 135 (nT d) (nI (max tm (rT (R j))))) (fun _ _ z => z)
  have hr2 := hr1.fr (sI_fr M9 135 (nT d) (nI (max tm (rT (R j))))) (one_ne hr1.1 hT1.1 (by omega))
  have b1 : fI (sI M9 135 (nT d) (nI (max tm (rT (R j))))) 134 (nT d) = nI (mn + 1) := a1
  have b2 : fI (sI M9 135 (nT d) (nI (max tm (rT (R j))))) 135 (nT d) = nI (max tm (rT (R j))) := up2_self _ _ _ _
  have hT2 : TrO (sI M9 135 (nT d) (nI (max tm (rT (R j))))) (nT d) (nP d) (nL d) (nK d) (nU d) (nA d) := hT1
  generalize sI M9 135 (nT d) (nI (max tm (rT (R j)))) = M2 at f2 hr2 b1 b2 hT2 ⊢
  have hK2 := hK.fr f2 (one_ne hK.1 hT.1 (by omega))
  have hU2 := hU.fr f2 (one_ne hU.1 hT.1 (by omega))
  refine r_aload_n hC 1 d_Tlearn_25 rfl rfl ?_
  refine r_cVi hC [] rfl (c_Rsort l Θ M2 (ra j) hr2.1) mi_Rsort lk_T111 in_Rsort (ci := 2) rfl rfl (by exact hr2.1) rfl (Nat.le_of_ble_eq_true rfl) ⟨Nat.le_of_ble_eq_true rfl, Nat.le_of_ble_eq_true rfl⟩ ⟨Nat.zero_le _, Nat.zero_le _⟩ d_Tlearn_26 (fun r M9 h9 => ?_)
  obtain ⟨rfl, rfl⟩ := h9
  rw [hr2.2.2.2.2.1]
  refine r_iconst hC 4 d_Tlearn_29 (by decide) ?_
  refine r_icmp_ne hC 195 d_Tlearn_30 (by decide) (fun z => absurd (by rw [hs4]; rfl) z) (fun _ => ?_)
  refine r_aload_n hC 0 d_Tlearn_33 rfl rfl ?_
  refine r_getS hC 4 5 133 fl_T37 (by exact hT2.1) d_Tlearn_34 rfl rfl (by exact hT2.2.2.2.2.2.1) ?_
  refine r_aload_n hC 1 d_Tlearn_37 rfl rfl ?_
  refine r_cVi hC [] rfl (c_Robject l Θ M9 (ra j) hr2.1) mi_Robject lk_T106 in_Robject (ci := 2) rfl rfl (by exact hr2.1) rfl (Nat.le_of_ble_eq_true rfl) ⟨Nat.le_of_ble_eq_true rfl, Nat.le_of_ble_eq_true rfl⟩ ⟨Nat.zero_le _, Nat.zero_le _⟩ d_Tlearn_38 (fun r M8 h8 => ?_)
  obtain ⟨rfl, rfl⟩ := h8
  rw [hr2.2.2.2.2.2.1]
  refine r_iconst hC 1 d_Tlearn_41 (by decide) ?_
  refine r_zast hC (rO (R j)) hU2.1 rfl (by rw [hU2.2.1]; exact ht1) (by rw [hU2.2.1]; omega) (Or.inr rfl) d_Tlearn_42 ?_
  have g3 := sEI_fr M8 (nU d) (rO (R j)) 1
  have hU3 : UDo (sEI M8 (nU d) (rO (R j)) 1) d (va_up U (rO (R j)) true) := by
    refine ⟨hU2.1, hU2.2.1, hU2.2.2.1, fun i hi => ?_⟩
    show up2 (eI M8) (nU d) (rO (R j)) 1 (nU d) i = _
    by_cases hij : i = rO (R j)
    · rw [hij, up2_self, va_up_self]; rfl
    · rw [up2_ne _ _ (fun z => hij z.2), va_up_ne _ _ hij]; exact hU2.2.2.2 i hi
  have hT3 := hT2.fr g3 (one_ne hT2.1 hU2.1 (by omega)) (one_ne hT2.2.2.2.2.2.2.1 hU2.1 (by omega))
  have hK3 := hK2.fr g3 (one_ne hK2.1 hU2.1 (by omega))
  have hr3 := hr2.fr g3 (one_ne hr2.1 hU2.1 (by omega))
  have f3 : Fr (fun b => b = nT d ∨ b = nK d ∨ b = nU d) M (sEI M8 (nU d) (rO (R j)) 1) := (f2.mono fun _ _ z => Or.inl z).trans g3 (fun _ _ z => Or.inr (Or.inr z))
  have b31 : fI (sEI M8 (nU d) (rO (R j)) 1) 134 (nT d) = nI (mn + 1) := b1
  have b32 : fI (sEI M8 (nU d) (rO (R j)) 1) 135 (nT d) = nI (max tm (rT (R j))) := b2
  generalize sEI M8 (nU d) (rO (R j)) 1 = M3 at hU3 hT3 hK3 hr3 f3 b31 b32 ⊢
  refine r_aload_n hC 0 d_Tlearn_43 rfl rfl ?_
  refine r_getS hC 4 4 132 fl_T33 (by exact hT3.1) d_Tlearn_44 rfl rfl (by exact hT3.2.2.2.2.1) ?_
  refine r_aload_n hC 1 d_Tlearn_47 rfl rfl ?_
  refine r_cVi hC [] rfl (c_Rnumber l Θ M3 (ra j) hr3.1) mi_Rnumber lk_T182 in_Rnumber (ci := 2) rfl rfl (by exact hr3.1) rfl (Nat.le_of_ble_eq_true rfl) ⟨Nat.le_of_ble_eq_true rfl, Nat.le_of_ble_eq_true rfl⟩ ⟨Nat.zero_le _, Nat.zero_le _⟩ d_Tlearn_48 (fun r M7 h7 => ?_)
  obtain ⟨rfl, rfl⟩ := h7
  rw [hr3.2.1]
  refine r_new hC 3 (nG d) rfl cl_T31 nw_3.1 nw_3.2 d_Tlearn_51 (by show _ + 1 ≤ mc; omega) (by show _ + 7 ≤ ms; omega) (fun q hq0 hqB => ?_)
  refine r_dup hC d_Tlearn_54 rfl ?_
  refine r_aload_n hC 1 d_Tlearn_55 rfl rfl ?_
  refine r_cIv hC [.ref (ra j)] rfl (c_Sinit l Θ _ q (ra j) (va_up_self _ _ _)) mi_Sinit lk_T184 in_Sinit rfl (Nat.le_of_ble_eq_true rfl) ⟨Nat.le_of_ble_eq_true rfl, Nat.le_of_ble_eq_true rfl⟩ ⟨by show 0 + 0 + 0 + 0 + 0 + 1 + 0 ≤ mc; omega, by show 0 + 0 + 0 + 0 + 0 + 7 + 0 ≤ ms; omega⟩ d_Tlearn_56 (fun M4 h4 => ?_)
  have g4 : Fr (fun _ => False) M7 M4 := by rw [h4]; exact (nwO_fr hq0).trans (sR_fr _ _ _ _) (fun b hb z => by have z : b = q := z; rw [z] at hb; exact hb hq0)
  have e1 : kd M4 q = 4 := by rw [h4]; exact va_up_self _ _ _
  have e2 : fR M4 96 q = some (ra j) := by rw [h4]; exact up2_self _ _ _ _
  have e3 : ow M4 q = nG d := by rw [h4]; exact va_up_self _ _ _
  clear h4
  have hT4 := hT3.fr g4 (fun z => z) (fun z => z)
  have hU4 := hU3.fr g4 (fun z => z)
  have hK4 := hK3.fr g4 (fun z => z)
  have hr4 := hr3.fr g4 (fun z => z)
  have q4 := g4.2 (nT d) (by have := hT3.1; omega) (fun z => z)
  have b41 := (q4.2.1 134).trans b31
  have b42 := (q4.2.1 135).trans b32
  have f4 := f3.trans g4 (fun _ _ z => absurd z (fun z => z))
  refine r_aast hC 4 3 j as_43 e1 (by rw [hK4.1]; rfl) (by omega) rfl (by rw [hK4.2.1]; exact hj1) (by rw [hK4.2.1]; omega) d_Tlearn_59 ?_
  have g5 := sER_fr M4 (nK d) j (some q)
  have hK5 : KNo (sER M4 (nK d) j (some q)) d (va_up kn j true) (va_up sa j q) := by
    refine ⟨hK4.1, hK4.2.1, hK4.2.2.1, fun i hi => ?_⟩
    show up2 (eR M4) (nK d) j (some q) (nK d) i = _
    by_cases hij : i = j
    · subst hij; rw [up2_self, va_up_self, va_up_self]; rfl
    · rw [up2_ne _ _ (fun z => hij z.2), va_up_ne _ _ hij, va_up_ne _ _ hij]; exact hK4.2.2.2 i hi
  have hT5 := hT4.fr g5 (one_ne hT4.1 hK4.1 (by omega)) (one_ne hT4.2.2.2.2.2.2.1 hK4.1 (by omega))
  have hU5 := hU4.fr g5 (one_ne hU4.1 hK4.1 (by omega))
  have hr5 := hr4.fr g5 (one_ne hr4.1 hK4.1 (by omega))
  have f5 := f4.trans g5 (fun _ _ z => Or.inr (Or.inl z))
  have e51 : kd (sER M4 (nK d) j (some q)) q = 4 := e1
  have e52 : fR (sER M4 (nK d) j (some q)) 96 q = some (ra j) := e2
  have e53 : ow (sER M4 (nK d) j (some q)) q = nG d := e3
  have b51 : fI (sER M4 (nK d) j (some q)) 134 (nT d) = nI (mn + 1) := b41
  have b52 : fI (sER M4 (nK d) j (some q)) 135 (nT d) = nI (max tm (rT (R j))) := b42
  generalize sER M4 (nK d) j (some q) = M5 at hK5 hT5 hU5 hr5 f5 e51 e52 e53 b51 b52 ⊢
  refine r_aload_n hC 0 d_Tlearn_60 rfl rfl ?_
  refine r_iconst hC 0 d_Tlearn_61 (by decide) ?_
  refine r_putI hC 4 8 136 fl_T165 rfl (by exact hT5.1) d_Tlearn_62 rfl rfl rfl rfl ?_
  have g6 := sI_fr M5 136 (nT d) 0
  have hK6 := hK5.fr g6 (one_ne hK5.1 hT5.1 (by omega))
  have hU6 := hU5.fr g6 (one_ne hU5.1 hT5.1 (by omega))
  have hr6 := hr5.fr g6 (one_ne hr5.1 hT5.1 (by omega))
  have hT6 : TrO (sI M5 136 (nT d) 0) (nT d) (nP d) (nL d) (nK d) (nU d) (nA d) := hT5
  have f6 := f5.trans g6 (fun _ _ z => Or.inl z)
  have e61 : kd (sI M5 136 (nT d) 0) q = 4 := e51
  have e62 : fR (sI M5 136 (nT d) 0) 96 q = some (ra j) := e52
  have e63 : ow (sI M5 136 (nT d) 0) q = nG d := e53
  have b61 : fI (sI M5 136 (nT d) 0) 134 (nT d) = nI (mn + 1) := b51
  have b62 : fI (sI M5 136 (nT d) 0) 135 (nT d) = nI (max tm (rT (R j))) := b52
  have b63 : fI (sI M5 136 (nT d) 0) 136 (nT d) = nI 0 := up2_self _ _ _ _
  generalize sI M5 136 (nT d) 0 = M6 at hK6 hU6 hr6 hT6 f6 e61 e62 e63 b61 b62 b63 ⊢
  have hjn : j ∉ ns := fun z => by
    have := ((hns j).mp z).1
    rw [hkj] at this; cases this
  have hM0 : kd M q = 0 := by
    have h0 := f3.1 q
    rcases Nat.eq_zero_or_pos (kd M q) with z | z
    · exact z
    · have := (h0 (by omega)).1
      omega
  have hX6 : NX M6 d R U (va_up sa j q) ra (capL ns.length) ns ns cp := by
    have k1 := hT.1
    have k2 := hK.1
    have k3 := hU.1
    refine NX.sac (sa := sa) (hX.fr f6 hT6 (fun b _ hb z => ?_) (fun b a hb _ _ z => ?_) (fun b hb z => ?_) (fun i hi => hi)) (fun i hi => va_up_ne _ _ (fun z => by rw [z] at hi; exact hjn hi)) (fun i hi => hi)
    · rcases z with z | z | z <;> (rw [z] at hb; omega)
    · rcases z with z | z | z <;> (rw [z] at hb; omega)
    · rcases z with z | z | z <;> (rw [z] at hb; omega)
  have hSt6 : STo M6 d (va_up kn j true) (va_up sa j q) ra := by
    refine ⟨fun i hi => ?_, fun i i2 hi hi2 e => ?_⟩
    · by_cases hij : i = j
      · subst hij; rw [va_up_self]; exact ⟨hj1, e61, e63, e62⟩
      · rw [va_up_ne _ _ hij] at hi ⊢
        obtain ⟨s1, s2, s3, s4⟩ := hSt.1 i hi
        have q5 := f6.2 (sa i) (by omega) (fun z => by
          rcases z with z | z | z
          · exact one_ne s2 hT.1 (by omega) z
          · exact one_ne s2 hK.1 (by omega) z
          · exact one_ne s2 hU.1 (by omega) z)
        exact ⟨s1, by rw [q5.1, s2], by rw [q5.2.2.2.2.2.2, s3], by rw [q5.2.2.1, s4]⟩
    · by_cases hij : i = j
      · by_cases hij2 : i2 = j
        · rw [hij, hij2]
        · rw [hij, va_up_self, va_up_ne _ _ hij2] at e
          rw [va_up_ne _ _ hij2] at hi2
          have := (hSt.1 i2 hi2).2.1
          rw [← e] at this; omega
      · rw [va_up_ne _ _ hij] at hi e
        by_cases hij2 : i2 = j
        · rw [hij2, va_up_self] at e
          have := (hSt.1 i hi).2.1
          rw [e] at this; omega
        · rw [va_up_ne _ _ hij2] at hi2 e
          exact hSt.2 i i2 hi hi2 e
  have hns6 : ∀ i, i ∈ ns ↔ va_up kn j true i = true ∧ rS (R i) ≠ 4 := fun i => by
    by_cases hij : i = j
    · subst hij; rw [va_up_self]; exact ⟨fun z => absurd z hjn, fun z => absurd hs4 z.2⟩
    · rw [va_up_ne _ _ hij]; exact hns i
  have fL : Fr (LZ M d) M M6 := f6.mono fun b _ z => by
    rcases z with z | z | z
    · exact Or.inr (Or.inr (Or.inl z))
    · exact Or.inr (Or.inr (Or.inr (Or.inr (Or.inr (Or.inl z)))))
    · exact Or.inr (Or.inr (Or.inr (Or.inr (Or.inr (Or.inr z)))))
  have hkt := hK6.2.2.2 (rO (R j)) ht1
  rw [va_up_ne _ _ ht2, va_up_ne _ _ ht2] at hkt
  refine r_aload_n hC 0 d_Tlearn_65 rfl rfl ?_
  refine r_getS hC 4 4 132 fl_T33 (by exact hT6.1) d_Tlearn_66 rfl rfl (by exact hT6.2.2.2.2.1) ?_
  refine r_aload_n hC 1 d_Tlearn_69 rfl rfl ?_
  refine r_cVi hC [] rfl (c_Robject l Θ M6 (ra j) hr6.1) mi_Robject lk_T106 in_Robject (ci := 2) rfl rfl (by exact hr6.1) rfl (Nat.le_of_ble_eq_true rfl) ⟨Nat.le_of_ble_eq_true rfl, Nat.le_of_ble_eq_true rfl⟩ ⟨by show 0 + 0 + 0 + 0 + 0 + 1 + 0 + 0 ≤ mc; omega, by show 0 + 0 + 0 + 0 + 0 + 7 + 0 + 0 ≤ ms; omega⟩ d_Tlearn_70 (fun r M7 h7 => ?_)
  obtain ⟨rfl, rfl⟩ := h7
  rw [hr6.2.2.2.2.2.1]
  rw [hkt0] at hkt
  have hkt : eR M7 (nK d) (rO (R j)) = none := hkt
  refine r_aald hC 4 (rO (R j)) (by rw [hK6.1]; rfl) (by omega) rfl (by rw [hK6.2.1]; exact ht1) (by rw [hK6.2.1]; omega) d_Tlearn_73 hkt ?_
  refine r_aq2 hC d_Tlearn_74 ?_
  refine r_aload_nQ hC 2 d_Tlearn_75 rfl rfl ?_
  refine r_ifnonnull hC (r := none) 80 d_Tlearn_76 (by decide) (fun _ z => by cases z) (fun _ => ?_)
  refine r_vret hC d_Tlearn_79 (by show 0 + 0 + 0 + 0 + 0 + 1 + 0 + 0 ≤ mc; omega) (by show 0 + 0 + 0 + 0 + 0 + 7 + 0 + 0 ≤ ms; omega) ⟨rfl, q, ⟨hX6.uc (fun i hi => (va_up_ne _ _ (fun z => ?_)).symm) (fun i hi => hi), hK6, hU6, ⟨b61, b62, b63⟩, hSt6, hns6⟩, fL⟩
  have := ((hns i).mp hi).1
  rw [z, hkt0] at this
  cases this
theorem c_TlearnC (l : Launch) (Θ : Glob) (M : Mem) (d : NdA) (R : Nat → RowT) (ra sa : Nat → Nat) (kn U : Nat → Bool) (ns : List Nat) (cp : Nat → Nat) (mn tm co : Nat) (hN : ND M d R ra sa kn U ns cp mn tm co) (j : Nat) (hj1 : j < 301) (hkj : kn j = false) (hr : RwO M (ra j) j (R j)) (hb : ∀ i, rT (R i) < 2 ^ 30 ∧ rW (R i) < 2 ^ 30) (hb2 : rS (R j) < 5) (hmn2 : mn < 2 ^ 30) (htm2 : tm < 2 ^ 30) (hs4 : rS (R j) = 4) (ht1 : rO (R j) < 301) (ht2 : rO (R j) ≠ j) (ht3 : rS (R (rO (R j))) ≠ 4) (hkt0 : kn (rO (R j)) = true) (p1 p3 : List Nat) (hp : ns = p1 ++ rO (R j) :: p3) (hk : nsOk R ns) (V : Nat → Bool) (hV : V = va_up U (rO (R j)) true) (cpE : Nat → Nat) (hcpE : cpE = goL R V (rn R V tS0 p1) (rO (R j) :: p3) (bkL R U (rn R U tS0 p1) (rO (R j) :: p3) cp)) (mc ms : Nat) (hmc : 1 + (kC cp - kC cpE) ≤ mc) (hms : 7 + (kS cp - kS cpE) ≤ ms) : Ct l Θ y_Tlearn 17 mc ms [.ref (nT d), .ref (ra j)] M (pV fun N => ∃ q, ND N d R ra (va_up sa j q) (va_up kn j true) (va_up U (rO (R j)) true) ns cpE (mn + 1) (max tm (rT (R j))) (p3.length + 1) ∧ Fr (LZ M d) M N) := by
  obtain ⟨hX, hK, hU, ⟨hmn, htm, hco⟩, hSt, hns⟩ := hN
  have hT := hX.1.1
  refine Ct.start (cc := b_Tlearn) (nL := 5) (ret := none) [some (.ref (nT d)), some (.ref (ra j)), none, none, none] mi_Tlearn.1 (by decide +kernel) (by intro v hv; simp at hv; rcases hv with rfl | rfl <;> rfl) (by simp) rfl (fun p e s m args below meth c hC => ?_)
  refine r_aload_n hC 0 d_Tlearn_0 rfl rfl ?_
  refine r_dup hC d_Tlearn_1 rfl ?_
  refine r_getI hC 4 6 134 fl_T168 (by exact hT.1) d_Tlearn_2 rfl rfl (by exact hmn) ?_
  refine r_iconst hC 1 d_Tlearn_5 (by decide) ?_
  refine r_iadd hC (nI (mn + 1)) d_Tlearn_6 (nI_1 _) ?_
  refine r_putI hC 4 6 134 fl_T168 rfl (by exact hT.1) d_Tlearn_7 rfl rfl rfl rfl ?_
  have f1 := sI_fr M 134 (nT d) (nI (mn + 1))
  have hr1 := hr.fr f1 (one_ne hr.1 hT.1 (by omega))
  have a1 : fI (sI M 134 (nT d) (nI (mn + 1))) 134 (nT d) = nI (mn + 1) := up2_self _ _ _ _
  have a2 : fI (sI M 134 (nT d) (nI (mn + 1))) 135 (nT d) = nI tm := htm
  have hT1 : TrO (sI M 134 (nT d) (nI (mn + 1))) (nT d) (nP d) (nL d) (nK d) (nU d) (nA d) := hT
  generalize sI M 134 (nT d) (nI (mn + 1)) = M1 at f1 hr1 a1 a2 hT1 ⊢
  refine r_aload_n hC 0 d_Tlearn_10 rfl rfl ?_
  refine r_aload_n hC 0 d_Tlearn_11 rfl rfl ?_
  refine r_getI hC 4 7 135 fl_T171 (by exact hT1.1) d_Tlearn_12 rfl rfl (by exact a2) ?_
  refine r_aload_n hC 1 d_Tlearn_15 rfl rfl ?_
  refine r_cVi hC [] rfl (c_Rtime l Θ M1 (ra j) hr1.1) mi_Rtime lk_T174 in_Rtime (ci := 2) rfl rfl (by exact hr1.1) rfl (Nat.le_of_ble_eq_true rfl) ⟨Nat.le_of_ble_eq_true rfl, Nat.le_of_ble_eq_true rfl⟩ ⟨Nat.zero_le _, Nat.zero_le _⟩ d_Tlearn_16 (fun r M9 h9 => ?_)
  obtain ⟨rfl, rfl⟩ := h9
  rw [hr1.2.2.2.1]
  refine r_max hC rfl lk_T176 ma_max.1 ma_max.2.1 ma_max.2.2 d_Tlearn_19 (Nat.le_of_ble_eq_true rfl) (Nat.le_of_ble_eq_true rfl) (Nat.zero_le _) (Nat.zero_le _) (nI_max (by omega) (by have := (hb j).1; omega)) ?_
  refine r_putI hC 4 7 135 fl_T171 rfl (by exact hT1.1) d_Tlearn_22 rfl rfl rfl rfl ?_
  have f2 := f1.trans (sI_fr M9 135 (nT d) (nI (max tm (rT (R j))))) (fun _ _ z => z)
  have hr2 := hr1.fr (sI_fr M9 135 (nT d) (nI (max tm (rT (R j))))) (one_ne hr1.1 hT1.1 (by omega))
  have b1 : fI (sI M9 135 (nT d) (nI (max tm (rT (R j))))) 134 (nT d) = nI (mn + 1) := a1
  have b2 : fI (sI M9 135 (nT d) (nI (max tm (rT (R j))))) 135 (nT d) = nI (max tm (rT (R j))) := up2_self _ _ _ _
  have hT2 : TrO (sI M9 135 (nT d) (nI (max tm (rT (R j))))) (nT d) (nP d) (nL d) (nK d) (nU d) (nA d) := hT1
  generalize sI M9 135 (nT d) (nI (max tm (rT (R j)))) = M2 at f2 hr2 b1 b2 hT2 ⊢
  have hK2 := hK.fr f2 (one_ne hK.1 hT.1 (by omega))
  have hU2 := hU.fr f2 (one_ne hU.1 hT.1 (by omega))
  refine r_aload_n hC 1 d_Tlearn_25 rfl rfl ?_
  refine r_cVi hC [] rfl (c_Rsort l Θ M2 (ra j) hr2.1) mi_Rsort lk_T111 in_Rsort (ci := 2) rfl rfl (by exact hr2.1) rfl (Nat.le_of_ble_eq_true rfl) ⟨Nat.le_of_ble_eq_true rfl, Nat.le_of_ble_eq_true rfl⟩ ⟨Nat.zero_le _, Nat.zero_le _⟩ d_Tlearn_26 (fun r M9 h9 => ?_)
  obtain ⟨rfl, rfl⟩ := h9
  rw [hr2.2.2.2.2.1]
  refine r_iconst hC 4 d_Tlearn_29 (by decide) ?_
  refine r_icmp_ne hC 195 d_Tlearn_30 (by decide) (fun z => absurd (by rw [hs4]; rfl) z) (fun _ => ?_)
  refine r_aload_n hC 0 d_Tlearn_33 rfl rfl ?_
  refine r_getS hC 4 5 133 fl_T37 (by exact hT2.1) d_Tlearn_34 rfl rfl (by exact hT2.2.2.2.2.2.1) ?_
  refine r_aload_n hC 1 d_Tlearn_37 rfl rfl ?_
  refine r_cVi hC [] rfl (c_Robject l Θ M9 (ra j) hr2.1) mi_Robject lk_T106 in_Robject (ci := 2) rfl rfl (by exact hr2.1) rfl (Nat.le_of_ble_eq_true rfl) ⟨Nat.le_of_ble_eq_true rfl, Nat.le_of_ble_eq_true rfl⟩ ⟨Nat.zero_le _, Nat.zero_le _⟩ d_Tlearn_38 (fun r M8 h8 => ?_)
  obtain ⟨rfl, rfl⟩ := h8
  rw [hr2.2.2.2.2.2.1]
  refine r_iconst hC 1 d_Tlearn_41 (by decide) ?_
  refine r_zast hC (rO (R j)) hU2.1 rfl (by rw [hU2.2.1]; exact ht1) (by rw [hU2.2.1]; omega) (Or.inr rfl) d_Tlearn_42 ?_
  have g3 := sEI_fr M8 (nU d) (rO (R j)) 1
  have hU3 : UDo (sEI M8 (nU d) (rO (R j)) 1) d (va_up U (rO (R j)) true) := by
    refine ⟨hU2.1, hU2.2.1, hU2.2.2.1, fun i hi => ?_⟩
    show up2 (eI M8) (nU d) (rO (R j)) 1 (nU d) i = _
    by_cases hij : i = rO (R j)
    · rw [hij, up2_self, va_up_self]; rfl
    · rw [up2_ne _ _ (fun z => hij z.2), va_up_ne _ _ hij]; exact hU2.2.2.2 i hi
  have hT3 := hT2.fr g3 (one_ne hT2.1 hU2.1 (by omega)) (one_ne hT2.2.2.2.2.2.2.1 hU2.1 (by omega))
  have hK3 := hK2.fr g3 (one_ne hK2.1 hU2.1 (by omega))
  have hr3 := hr2.fr g3 (one_ne hr2.1 hU2.1 (by omega))
  have f3 : Fr (fun b => b = nT d ∨ b = nK d ∨ b = nU d) M (sEI M8 (nU d) (rO (R j)) 1) := (f2.mono fun _ _ z => Or.inl z).trans g3 (fun _ _ z => Or.inr (Or.inr z))
  have b31 : fI (sEI M8 (nU d) (rO (R j)) 1) 134 (nT d) = nI (mn + 1) := b1
  have b32 : fI (sEI M8 (nU d) (rO (R j)) 1) 135 (nT d) = nI (max tm (rT (R j))) := b2
  generalize sEI M8 (nU d) (rO (R j)) 1 = M3 at hU3 hT3 hK3 hr3 f3 b31 b32 ⊢
  refine r_aload_n hC 0 d_Tlearn_43 rfl rfl ?_
  refine r_getS hC 4 4 132 fl_T33 (by exact hT3.1) d_Tlearn_44 rfl rfl (by exact hT3.2.2.2.2.1) ?_
  refine r_aload_n hC 1 d_Tlearn_47 rfl rfl ?_
  refine r_cVi hC [] rfl (c_Rnumber l Θ M3 (ra j) hr3.1) mi_Rnumber lk_T182 in_Rnumber (ci := 2) rfl rfl (by exact hr3.1) rfl (Nat.le_of_ble_eq_true rfl) ⟨Nat.le_of_ble_eq_true rfl, Nat.le_of_ble_eq_true rfl⟩ ⟨Nat.zero_le _, Nat.zero_le _⟩ d_Tlearn_48 (fun r M7 h7 => ?_)
  obtain ⟨rfl, rfl⟩ := h7
  rw [hr3.2.1]
  refine r_new hC 3 (nG d) rfl cl_T31 nw_3.1 nw_3.2 d_Tlearn_51 (by show _ + 1 ≤ mc; omega) (by show _ + 7 ≤ ms; omega) (fun q hq0 hqB => ?_)
  refine r_dup hC d_Tlearn_54 rfl ?_
  refine r_aload_n hC 1 d_Tlearn_55 rfl rfl ?_
  refine r_cIv hC [.ref (ra j)] rfl (c_Sinit l Θ _ q (ra j) (va_up_self _ _ _)) mi_Sinit lk_T184 in_Sinit rfl (Nat.le_of_ble_eq_true rfl) ⟨Nat.le_of_ble_eq_true rfl, Nat.le_of_ble_eq_true rfl⟩ ⟨by show 0 + 0 + 0 + 0 + 0 + 1 + 0 ≤ mc; omega, by show 0 + 0 + 0 + 0 + 0 + 7 + 0 ≤ ms; omega⟩ d_Tlearn_56 (fun M4 h4 => ?_)
  have g4 : Fr (fun _ => False) M7 M4 := by rw [h4]; exact (nwO_fr hq0).trans (sR_fr _ _ _ _) (fun b hb z => by have z : b = q := z; rw [z] at hb; exact hb hq0)
  have e1 : kd M4 q = 4 := by rw [h4]; exact va_up_self _ _ _
  have e2 : fR M4 96 q = some (ra j) := by rw [h4]; exact up2_self _ _ _ _
  have e3 : ow M4 q = nG d := by rw [h4]; exact va_up_self _ _ _
  clear h4
  have hT4 := hT3.fr g4 (fun z => z) (fun z => z)
  have hU4 := hU3.fr g4 (fun z => z)
  have hK4 := hK3.fr g4 (fun z => z)
  have hr4 := hr3.fr g4 (fun z => z)
  have q4 := g4.2 (nT d) (by have := hT3.1; omega) (fun z => z)
  have b41 := (q4.2.1 134).trans b31
  have b42 := (q4.2.1 135).trans b32
  have f4 := f3.trans g4 (fun _ _ z => absurd z (fun z => z))
  refine r_aast hC 4 3 j as_43 e1 (by rw [hK4.1]; rfl) (by omega) rfl (by rw [hK4.2.1]; exact hj1) (by rw [hK4.2.1]; omega) d_Tlearn_59 ?_
  have g5 := sER_fr M4 (nK d) j (some q)
  have hK5 : KNo (sER M4 (nK d) j (some q)) d (va_up kn j true) (va_up sa j q) := by
    refine ⟨hK4.1, hK4.2.1, hK4.2.2.1, fun i hi => ?_⟩
    show up2 (eR M4) (nK d) j (some q) (nK d) i = _
    by_cases hij : i = j
    · subst hij; rw [up2_self, va_up_self, va_up_self]; rfl
    · rw [up2_ne _ _ (fun z => hij z.2), va_up_ne _ _ hij, va_up_ne _ _ hij]; exact hK4.2.2.2 i hi
  have hT5 := hT4.fr g5 (one_ne hT4.1 hK4.1 (by omega)) (one_ne hT4.2.2.2.2.2.2.1 hK4.1 (by omega))
  have hU5 := hU4.fr g5 (one_ne hU4.1 hK4.1 (by omega))
  have hr5 := hr4.fr g5 (one_ne hr4.1 hK4.1 (by omega))
  have f5 := f4.trans g5 (fun _ _ z => Or.inr (Or.inl z))
  have e51 : kd (sER M4 (nK d) j (some q)) q = 4 := e1
  have e52 : fR (sER M4 (nK d) j (some q)) 96 q = some (ra j) := e2
  have e53 : ow (sER M4 (nK d) j (some q)) q = nG d := e3
  have b51 : fI (sER M4 (nK d) j (some q)) 134 (nT d) = nI (mn + 1) := b41
  have b52 : fI (sER M4 (nK d) j (some q)) 135 (nT d) = nI (max tm (rT (R j))) := b42
  generalize sER M4 (nK d) j (some q) = M5 at hK5 hT5 hU5 hr5 f5 e51 e52 e53 b51 b52 ⊢
  refine r_aload_n hC 0 d_Tlearn_60 rfl rfl ?_
  refine r_iconst hC 0 d_Tlearn_61 (by decide) ?_
  refine r_putI hC 4 8 136 fl_T165 rfl (by exact hT5.1) d_Tlearn_62 rfl rfl rfl rfl ?_
  have g6 := sI_fr M5 136 (nT d) 0
  have hK6 := hK5.fr g6 (one_ne hK5.1 hT5.1 (by omega))
  have hU6 := hU5.fr g6 (one_ne hU5.1 hT5.1 (by omega))
  have hr6 := hr5.fr g6 (one_ne hr5.1 hT5.1 (by omega))
  have hT6 : TrO (sI M5 136 (nT d) 0) (nT d) (nP d) (nL d) (nK d) (nU d) (nA d) := hT5
  have f6 := f5.trans g6 (fun _ _ z => Or.inl z)
  have e61 : kd (sI M5 136 (nT d) 0) q = 4 := e51
  have e62 : fR (sI M5 136 (nT d) 0) 96 q = some (ra j) := e52
  have e63 : ow (sI M5 136 (nT d) 0) q = nG d := e53
  have b61 : fI (sI M5 136 (nT d) 0) 134 (nT d) = nI (mn + 1) := b51
  have b62 : fI (sI M5 136 (nT d) 0) 135 (nT d) = nI (max tm (rT (R j))) := b52
  have b63 : fI (sI M5 136 (nT d) 0) 136 (nT d) = nI 0 := up2_self _ _ _ _
  generalize sI M5 136 (nT d) 0 = M6 at hK6 hU6 hr6 hT6 f6 e61 e62 e63 b61 b62 b63 ⊢
  have hjn : j ∉ ns := fun z => by
    have := ((hns j).mp z).1
    rw [hkj] at this; cases this
  have hM0 : kd M q = 0 := by
    have h0 := f3.1 q
    rcases Nat.eq_zero_or_pos (kd M q) with z | z
    · exact z
    · have := (h0 (by omega)).1
      omega
  have hX6 : NX M6 d R U (va_up sa j q) ra (capL ns.length) ns ns cp := by
    have k1 := hT.1
    have k2 := hK.1
    have k3 := hU.1
    refine NX.sac (sa := sa) (hX.fr f6 hT6 (fun b _ hb z => ?_) (fun b a hb _ _ z => ?_) (fun b hb z => ?_) (fun i hi => hi)) (fun i hi => va_up_ne _ _ (fun z => by rw [z] at hi; exact hjn hi)) (fun i hi => hi)
    · rcases z with z | z | z <;> (rw [z] at hb; omega)
    · rcases z with z | z | z <;> (rw [z] at hb; omega)
    · rcases z with z | z | z <;> (rw [z] at hb; omega)
  have hSt6 : STo M6 d (va_up kn j true) (va_up sa j q) ra := by
    refine ⟨fun i hi => ?_, fun i i2 hi hi2 e => ?_⟩
    · by_cases hij : i = j
      · subst hij; rw [va_up_self]; exact ⟨hj1, e61, e63, e62⟩
      · rw [va_up_ne _ _ hij] at hi ⊢
        obtain ⟨s1, s2, s3, s4⟩ := hSt.1 i hi
        have q5 := f6.2 (sa i) (by omega) (fun z => by
          rcases z with z | z | z
          · exact one_ne s2 hT.1 (by omega) z
          · exact one_ne s2 hK.1 (by omega) z
          · exact one_ne s2 hU.1 (by omega) z)
        exact ⟨s1, by rw [q5.1, s2], by rw [q5.2.2.2.2.2.2, s3], by rw [q5.2.2.1, s4]⟩
    · by_cases hij : i = j
      · by_cases hij2 : i2 = j
        · rw [hij, hij2]
        · rw [hij, va_up_self, va_up_ne _ _ hij2] at e
          rw [va_up_ne _ _ hij2] at hi2
          have := (hSt.1 i2 hi2).2.1
          rw [← e] at this; omega
      · rw [va_up_ne _ _ hij] at hi e
        by_cases hij2 : i2 = j
        · rw [hij2, va_up_self] at e
          have := (hSt.1 i hi).2.1
          rw [e] at this; omega
        · rw [va_up_ne _ _ hij2] at hi2 e
          exact hSt.2 i i2 hi hi2 e
  have hns6 : ∀ i, i ∈ ns ↔ va_up kn j true i = true ∧ rS (R i) ≠ 4 := fun i => by
    by_cases hij : i = j
    · subst hij; rw [va_up_self]; exact ⟨fun z => absurd z hjn, fun z => absurd hs4 z.2⟩
    · rw [va_up_ne _ _ hij]; exact hns i
  have fL : Fr (LZ M d) M M6 := f6.mono fun b _ z => by
    rcases z with z | z | z
    · exact Or.inr (Or.inr (Or.inl z))
    · exact Or.inr (Or.inr (Or.inr (Or.inr (Or.inr (Or.inl z)))))
    · exact Or.inr (Or.inr (Or.inr (Or.inr (Or.inr (Or.inr z)))))
  have hkt := hK6.2.2.2 (rO (R j)) ht1
  rw [va_up_ne _ _ ht2, va_up_ne _ _ ht2] at hkt
  refine r_aload_n hC 0 d_Tlearn_65 rfl rfl ?_
  refine r_getS hC 4 4 132 fl_T33 (by exact hT6.1) d_Tlearn_66 rfl rfl (by exact hT6.2.2.2.2.1) ?_
  refine r_aload_n hC 1 d_Tlearn_69 rfl rfl ?_
  refine r_cVi hC [] rfl (c_Robject l Θ M6 (ra j) hr6.1) mi_Robject lk_T106 in_Robject (ci := 2) rfl rfl (by exact hr6.1) rfl (Nat.le_of_ble_eq_true rfl) ⟨Nat.le_of_ble_eq_true rfl, Nat.le_of_ble_eq_true rfl⟩ ⟨by show 0 + 0 + 0 + 0 + 0 + 1 + 0 + 0 ≤ mc; omega, by show 0 + 0 + 0 + 0 + 0 + 7 + 0 + 0 ≤ ms; omega⟩ d_Tlearn_70 (fun r M7 h7 => ?_)
  obtain ⟨rfl, rfl⟩ := h7
  rw [hr6.2.2.2.2.2.1]
  rw [hkt0] at hkt
  have hkt : eR M7 (nK d) (rO (R j)) = some (sa (rO (R j))) := hkt
  refine r_aaldS hC 4 (rO (R j)) (by rw [hK6.1]; rfl) (by omega) rfl (by rw [hK6.2.1]; exact ht1) (by rw [hK6.2.1]; omega) d_Tlearn_73 hkt ?_
  refine r_as2 hC d_Tlearn_74 ?_
  refine r_aload_n hC 2 d_Tlearn_75 rfl rfl ?_
  refine r_ifnonnull hC (r := some (sa (rO (R j)))) 80 d_Tlearn_76 (by decide) (fun _ _ => ?_) (fun z => by cases z)
  have hX7 := hX6
  have hk7 := hk
  rw [hp] at hX7 hk7
  have est : va_up sa j q (rO (R j)) = sa (rO (R j)) := va_up_ne _ _ ht2
  rw [← est]
  refine learn_tail hC hX7 rfl hk7 hV hcpE hmc hms (fun N hX8 f8 t1 t2 t3 => ?_)
  rw [← hp] at hX8 f8
  rw [hV] at hX8
  have hkm : ∀ i ∈ ns, (va_up kn j true) i = true := fun i hi => ((hns6 i).mp hi).1
  have hs7 : ∀ i ∈ ns, kd M7 (va_up sa j q i) = 4 := fun i hi => (hSt6.1 i (hkm i hi)).2.1
  refine ⟨rfl, q, ⟨?_, hK6.fr f8 (fun z => ?_), hU6.fr f8 (fun z => ?_), ⟨t1.trans b61, t2.trans b62, t3⟩, ⟨fun i hi => ?_, hSt6.2⟩, hns6⟩, ?_⟩
  · exact hX8
  · have := KZ.kind hX6 hs7 z
    have := hK6.1; omega
  · have := KZ.kind hX6 hs7 z
    have := hU6.1; omega
  · obtain ⟨s1, s2, s3, s4⟩ := hSt6.1 i hi
    refine ⟨s1, f8.k s2, (f8.1 _ (by omega)).2.trans s3, ?_⟩
    by_cases hin : i ∈ ns
    · exact (hX8.1.2.2.1 i hin).2.1
    · have q6 := f8.2 _ (by rw [s2]; omega) (fun z => by
        rcases z with (z | ⟨x, hx, z⟩) | z | z | z
        · exact PZ.not hX6.2.1 s2 (by omega) z
        · rw [hSt6.2 i x hi (hkm x hx) z] at hin; exact hin hx
        · exact one_ne s2 hT6.1 (by omega) z
        · exact one_ne s2 hX6.1.2.1.1 (by omega) z
        · omega)
      rw [q6.2.2.1]; exact s4
  · refine fL.trans f8 (fun b hb z => LZ.old fL b hb ?_)
    rcases z with (z | ⟨x, hx, z⟩) | z | z | z
    · exact Or.inl z
    · have := hSt6.1 x (hkm x hx)
      exact Or.inr (Or.inl ⟨by rw [z]; exact this.2.1, by rw [z]; exact this.2.2.1⟩)
    · exact Or.inr (Or.inr (Or.inl z))
    · exact Or.inr (Or.inr (Or.inr (Or.inl z)))
    · exact Or.inr (Or.inr (Or.inr (Or.inr (Or.inl z))))
