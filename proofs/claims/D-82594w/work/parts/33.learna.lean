theorem one_ne {M : Mem} {a b x y : Nat} (h1 : kd M a = x) (h2 : kd M b = y) (h : x ≠ y) : a ≠ b := fun z => by rw [z, h2] at h1; exact h h1.symm
theorem c_TlearnA (l : Launch) (Θ : Glob) (M : Mem) (d : NdA) (R : Nat → RowT) (ra sa : Nat → Nat) (kn U : Nat → Bool) (ns : List Nat) (cp : Nat → Nat) (mn tm co : Nat) (hN : ND M d R ra sa kn U ns cp mn tm co) (j : Nat) (hj1 : j < 301) (hkj : kn j = false) (hr : RwO M (ra j) j (R j)) (hb : ∀ i, rT (R i) < 2 ^ 30 ∧ rW (R i) < 2 ^ 30) (hb2 : rS (R j) < 5) (hmn2 : mn < 2 ^ 30) (htm2 : tm < 2 ^ 30) (hs4 : rS (R j) ≠ 4) (p1 p2 : List Nat) (hp : ns = p1 ++ p2) (hpl : p1.length = plc R j ns) (hsr : srt R ns) (hk2 : nsOk R (p1 ++ j :: p2)) (hl300 : ns.length < 300) (cpE : Nat → Nat) (hcpE : cpE = goL R U (rn R U tS0 p1) (j :: p2) (bkL R U (rn R U tS0 p1) p2 cp)) (mc ms : Nat) (hmc : 1 + (gC ns.length (capL ns.length) + (kC cp - kC cpE)) ≤ mc) (hms : 7 + (gS ns.length (capL ns.length) + (kS cp - kS cpE)) ≤ ms) : Ct l Θ y_Tlearn 17 mc ms [.ref (nT d), .ref (ra j)] M (pV fun N => ∃ q, ND N d R ra (va_up sa j q) (va_up kn j true) U (p1 ++ j :: p2) cpE (mn + 1) (max tm (rT (R j))) (p2.length + 1) ∧ Fr (LZ M d) M N) := by
  subst hp
  obtain ⟨hX, hK, hU, ⟨hmn, htm, hco⟩, hSt, hns⟩ := hN
  have hT := hX.1.1
  refine Ct.start (cc := b_Tlearn) (nL := 5) (ret := none) [some (.ref (nT d)), some (.ref (ra j)), none, none, none] mi_Tlearn.1 (by decide +kernel) (by intro v hv; simp at hv; rcases hv with rfl | rfl <;> rfl) (by simp) rfl (fun p e s m args below meth c hC => ?_)
  refine r_aload_n hC 0 d_Tlearn_0 rfl rfl ?_
  refine r_dup hC d_Tlearn_1 rfl ?_
  refine r_getI hC 4 6 134 fl_T168 (by exact hT.1) d_Tlearn_2 rfl rfl (by exact hmn) ?_
  refine r_iconst hC 1 d_Tlearn_5 (by decide) ?_
  refine r_iadd hC (nI (mn + 1)) d_Tlearn_6 (nI_1 _) ?_
  refine r_putI hC 4 6 134 fl_T168 rfl (by exact hT.1) d_Tlearn_7 rfl rfl rfl rfl ?_
  have f1 := sI_fr M 134 (nT d) (nI (mn + 1))
  have hr1 := hr.fr f1 (one_ne hr.1 hT.1 (by omega))
  have a1 : fI (sI M 134 (nT d) (nI (mn + 1))) 134 (nT d) = nI (mn + 1) := up2_self _ _ _ _
  have a2 : fI (sI M 134 (nT d) (nI (mn + 1))) 135 (nT d) = nI tm := htm
  have hT1 : TrO (sI M 134 (nT d) (nI (mn + 1))) (nT d) (nP d) (nL d) (nK d) (nU d) (nA d) := hT
  generalize sI M 134 (nT d) (nI (mn + 1)) = M1 at f1 hr1 a1 a2 hT1 ⊢
  refine r_aload_n hC 0 d_Tlearn_10 rfl rfl ?_
  refine r_aload_n hC 0 d_Tlearn_11 rfl rfl ?_
  refine r_getI hC 4 7 135 fl_T171 (by exact hT1.1) d_Tlearn_12 rfl rfl (by exact a2) ?_
  refine r_aload_n hC 1 d_Tlearn_15 rfl rfl ?_
  refine r_cVi hC [] rfl (c_Rtime l Θ M1 (ra j) hr1.1) mi_Rtime lk_T174 in_Rtime (ci := 2) rfl rfl (by exact hr1.1) rfl (Nat.le_of_ble_eq_true rfl) ⟨Nat.le_of_ble_eq_true rfl, Nat.le_of_ble_eq_true rfl⟩ ⟨Nat.zero_le _, Nat.zero_le _⟩ d_Tlearn_16 (fun r M9 h9 => ?_)
  obtain ⟨rfl, rfl⟩ := h9
  rw [hr1.2.2.2.1]
  refine r_max hC rfl lk_T176 ma_max.1 ma_max.2.1 ma_max.2.2 d_Tlearn_19 (Nat.le_of_ble_eq_true rfl) (Nat.le_of_ble_eq_true rfl) (Nat.zero_le _) (Nat.zero_le _) (nI_max (by omega) (by have := (hb j).1; omega)) ?_
  refine r_putI hC 4 7 135 fl_T171 rfl (by exact hT1.1) d_Tlearn_22 rfl rfl rfl rfl ?_
  have f2 := f1.trans (sI_fr M9 135 (nT d) (nI (max tm (rT (R j))))) (fun _ _ z => z)
  have hr2 := hr1.fr (sI_fr M9 135 (nT d) (nI (max tm (rT (R j))))) (one_ne hr1.1 hT1.1 (by omega))
  have b1 : fI (sI M9 135 (nT d) (nI (max tm (rT (R j))))) 134 (nT d) = nI (mn + 1) := a1
  have b2 : fI (sI M9 135 (nT d) (nI (max tm (rT (R j))))) 135 (nT d) = nI (max tm (rT (R j))) := up2_self _ _ _ _
  have hT2 : TrO (sI M9 135 (nT d) (nI (max tm (rT (R j))))) (nT d) (nP d) (nL d) (nK d) (nU d) (nA d) := hT1
  generalize sI M9 135 (nT d) (nI (max tm (rT (R j)))) = M2 at f2 hr2 b1 b2 hT2 ⊢
  have hK2 := hK.fr f2 (one_ne hK.1 hT.1 (by omega))
  have hU2 := hU.fr f2 (one_ne hU.1 hT.1 (by omega))
  refine r_aload_n hC 1 d_Tlearn_25 rfl rfl ?_
  refine r_cVi hC [] rfl (c_Rsort l Θ M2 (ra j) hr2.1) mi_Rsort lk_T111 in_Rsort (ci := 2) rfl rfl (by exact hr2.1) rfl (Nat.le_of_ble_eq_true rfl) ⟨Nat.le_of_ble_eq_true rfl, Nat.le_of_ble_eq_true rfl⟩ ⟨Nat.zero_le _, Nat.zero_le _⟩ d_Tlearn_26 (fun r M9 h9 => ?_)
  obtain ⟨rfl, rfl⟩ := h9
  rw [hr2.2.2.2.2.1]
  refine r_iconst hC 4 d_Tlearn_29 (by decide) ?_
  refine r_icmp_ne hC 195 d_Tlearn_30 (by decide) (fun _ => ?_) (fun z => absurd ((nI_eq (b := 4) (by omega) (by omega)).mp z) hs4)
  refine r_new hC 3 (nG d) rfl cl_T31 nw_3.1 nw_3.2 d_Tlearn_195 (by show _ + 1 ≤ mc; omega) (by show _ + 7 ≤ ms; omega) (fun q hq0 hqB => ?_)
  refine r_dup hC d_Tlearn_198 rfl ?_
  refine r_aload_n hC 1 d_Tlearn_199 rfl rfl ?_
  refine r_cIv hC [.ref (ra j)] rfl (c_Sinit l Θ _ q (ra j) (va_up_self _ _ _)) mi_Sinit lk_T184 in_Sinit rfl (Nat.le_of_ble_eq_true rfl) ⟨Nat.le_of_ble_eq_true rfl, Nat.le_of_ble_eq_true rfl⟩ ⟨by show _ + 0 ≤ mc; omega, by show 0 + 0 + 0 + 7 + 0 ≤ ms; omega⟩ d_Tlearn_200 (fun M3 h3 => ?_)
  have f3 : Fr (fun _ => False) M9 M3 := by rw [h3]; exact (nwO_fr hq0).trans (sR_fr _ _ _ _) (fun b hb z => by have z : b = q := z; rw [z] at hb; exact hb hq0)
  have e1 : kd M3 q = 4 := by rw [h3]; exact va_up_self _ _ _
  have e2 : fR M3 96 q = some (ra j) := by rw [h3]; exact up2_self _ _ _ _
  have e3 : ow M3 q = nG d := by rw [h3]; exact va_up_self _ _ _
  clear h3
  have hT3 := hT2.fr f3 (fun z => z) (fun z => z)
  have hU3 := hU2.fr f3 (fun z => z)
  have hK3 := hK2.fr f3 (fun z => z)
  have hr3 := hr2.fr f3 (fun z => z)
  refine r_as2 hC d_Tlearn_203 ?_
  refine r_aload_n hC 2 d_Tlearn_204 rfl rfl ?_
  refine r_aload_n hC 0 d_Tlearn_205 rfl rfl ?_
  refine r_getS hC 4 5 133 fl_T37 (by exact hT3.1) d_Tlearn_206 rfl rfl (by exact hT3.2.2.2.2.2.1) ?_
  refine r_aload_n hC 1 d_Tlearn_209 rfl rfl ?_
  refine r_cVi hC [] rfl (c_Rnumber l Θ M3 (ra j) hr3.1) mi_Rnumber lk_T182 in_Rnumber (ci := 2) rfl rfl (by exact hr3.1) rfl (Nat.le_of_ble_eq_true rfl) ⟨Nat.le_of_ble_eq_true rfl, Nat.le_of_ble_eq_true rfl⟩ ⟨by show _ + 0 ≤ mc; omega, by show 0 + 0 + 0 + 7 + 0 + 0 ≤ ms; omega⟩ d_Tlearn_210 (fun r M8 h8 => ?_)
  obtain ⟨rfl, rfl⟩ := h8
  rw [hr3.2.1]
  refine r_zald hC j hU3.1 rfl (by rw [hU3.2.1]; exact hj1) (by rw [hU3.2.1]; omega) d_Tlearn_213 (hU3.2.2.2 j hj1) ?_
  refine r_putI hC 3 1 97 fl_T99 rfl (by exact e1) d_Tlearn_214 rfl rfl (by cases U j <;> rfl) (by cases U j <;> rfl) ?_
  have g4 := sI_fr M8 97 q (b2i (U j))
  have f4 := f3.trans g4 (fun b hb z => by have z : b = q := z; rw [z] at hb; exact hb hq0)
  have e41 : kd (sI M8 97 q (b2i (U j))) q = 4 := e1
  have e42 : fR (sI M8 97 q (b2i (U j))) 96 q = some (ra j) := e2
  have e43 : ow (sI M8 97 q (b2i (U j))) q = nG d := e3
  have e44 : fI (sI M8 97 q (b2i (U j))) 97 q = b2i (U j) := up2_self _ _ _ _
  generalize sI M8 97 q (b2i (U j)) = M4 at f4 e41 e42 e43 e44 ⊢
  have hT4 := hT2.fr f4 (fun z => z) (fun z => z)
  have hK4 := hK2.fr f4 (fun z => z)
  have hU4 := hU2.fr f4 (fun z => z)
  have hr4 := hr2.fr f4 (fun z => z)
  refine r_aload_n hC 0 d_Tlearn_217 rfl rfl ?_
  refine r_getS hC 4 4 132 fl_T33 (by exact hT4.1) d_Tlearn_218 rfl rfl (by exact hT4.2.2.2.2.1) ?_
  refine r_aload_n hC 1 d_Tlearn_221 rfl rfl ?_
  refine r_cVi hC [] rfl (c_Rnumber l Θ M4 (ra j) hr4.1) mi_Rnumber lk_T182 in_Rnumber (ci := 2) rfl rfl (by exact hr4.1) rfl (Nat.le_of_ble_eq_true rfl) ⟨Nat.le_of_ble_eq_true rfl, Nat.le_of_ble_eq_true rfl⟩ ⟨by show _ + 0 ≤ mc; omega, by show 0 + 0 + 0 + 7 + 0 + 0 + 0 ≤ ms; omega⟩ d_Tlearn_222 (fun r M8 h8 => ?_)
  obtain ⟨rfl, rfl⟩ := h8
  rw [hr4.2.1]
  refine r_aload_n hC 2 d_Tlearn_225 rfl rfl ?_
  refine r_aast hC 4 3 j as_43 e41 (by rw [hK4.1]; rfl) (by omega) rfl (by rw [hK4.2.1]; exact hj1) (by rw [hK4.2.1]; omega) d_Tlearn_226 ?_
  have hqK : q ≠ nK d := one_ne e41 hK4.1 (by omega)
  have g5 := sER_fr M8 (nK d) j (some q)
  have hK5 : KNo (sER M8 (nK d) j (some q)) d (va_up kn j true) (va_up sa j q) := by
    refine ⟨hK4.1, hK4.2.1, hK4.2.2.1, fun i hi => ?_⟩
    show up2 (eR M8) (nK d) j (some q) (nK d) i = _
    by_cases hij : i = j
    · subst hij; rw [up2_self, va_up_self, va_up_self]; rfl
    · rw [up2_ne _ _ (fun z => hij z.2), va_up_ne _ _ hij, va_up_ne _ _ hij]; exact hK4.2.2.2 i hi
  have f5 : Fr (fun b => b = nT d ∨ b = nK d) M (sER M8 (nK d) j (some q)) := ((f2.mono fun _ _ z => Or.inl z).trans f4 (fun _ _ z => absurd z (fun z => z))).trans g5 (fun _ _ z => Or.inr z)
  have e51 : kd (sER M8 (nK d) j (some q)) q = 4 := e41
  have e52 : fR (sER M8 (nK d) j (some q)) 96 q = some (ra j) := e42
  have e53 : ow (sER M8 (nK d) j (some q)) q = nG d := e43
  have e54 : fI (sER M8 (nK d) j (some q)) 97 q = b2i (U j) := e44
  have hT5 : TrO (sER M8 (nK d) j (some q)) (nT d) (nP d) (nL d) (nK d) (nU d) (nA d) := hT4.fr g5 (one_ne hT4.1 hK4.1 (by omega)) (one_ne hT4.2.2.2.2.2.2.1 hK4.1 (by omega))
  have hr5 := hr4.fr g5 (one_ne hr4.1 hK4.1 (by omega))
  have hU5 := hU4.fr g5 (one_ne hU4.1 hK4.1 (by omega))
  have m5 : fI (sER M8 (nK d) j (some q)) 134 (nT d) = nI (mn + 1) ∧ fI (sER M8 (nK d) j (some q)) 135 (nT d) = nI (max tm (rT (R j))) := by
    have q5 := ((f4.mono (Z' := fun b => b = nK d) (fun _ _ z => absurd z (fun z => z))).trans g5 (fun _ _ z => z)).2 (nT d) (by have := hT2.1; omega) (one_ne hT2.1 hK2.1 (by omega))
    exact ⟨(q5.2.1 134).trans b1, (q5.2.1 135).trans b2⟩
  generalize sER M8 (nK d) j (some q) = M5 at hK5 f5 e51 e52 e53 e54 hT5 hr5 hU5 m5 ⊢
  have hjn : j ∉ p1 ++ p2 := fun z => by
    have := ((hns j).mp z).1
    rw [hkj] at this; cases this
  have hM0 : kd M q = 0 := by
    have h0 := f2.1 q
    rcases Nat.eq_zero_or_pos (kd M q) with z | z
    · exact z
    · have := (h0 (by omega)).1
      omega
  have hX5 : NX M5 d R U (va_up sa j q) ra (capL (p1 ++ p2).length) (p1 ++ p2) (p1 ++ p2) cp := by
    refine NX.sac (sa := sa) (hX.fr f5 hT5 (fun b _ hb z => ?_) (fun b a hb _ _ z => ?_) (fun b hb z => ?_) (fun i hi => hi)) (fun i hi => va_up_ne _ _ (fun z => hjn (z ▸ hi))) (fun i hi => hi)
    · have := hT.1; have := hK.1
      rcases z with z | z <;> (rw [z] at hb; omega)
    · have := hT.1; have := hK.1
      rcases z with z | z <;> (rw [z] at hb; omega)
    · have := hT.1; have := hK.1
      rcases z with z | z <;> (rw [z] at hb; omega)
  have hSt5 : STo M5 d (va_up kn j true) (va_up sa j q) ra := by
    refine ⟨fun i hi => ?_, fun i i2 hi hi2 e => ?_⟩
    · by_cases hij : i = j
      · subst hij; rw [va_up_self]; exact ⟨hj1, e51, e53, e52⟩
      · rw [va_up_ne _ _ hij] at hi ⊢
        obtain ⟨s1, s2, s3, s4⟩ := hSt.1 i hi
        have q5 := f5.2 (sa i) (by omega) (fun z => by
          rcases z with z | z
          · exact one_ne s2 hT.1 (by omega) z
          · exact one_ne s2 hK.1 (by omega) z)
        exact ⟨s1, by rw [q5.1, s2], by rw [q5.2.2.2.2.2.2, s3], by rw [q5.2.2.1, s4]⟩
    · by_cases hij : i = j
      · by_cases hij2 : i2 = j
        · rw [hij, hij2]
        · rw [hij, va_up_self, va_up_ne _ _ hij2] at e
          rw [va_up_ne _ _ hij2] at hi2
          have := (hSt.1 i2 hi2).2.1
          rw [← e] at this; omega
      · rw [va_up_ne _ _ hij] at hi e
        by_cases hij2 : i2 = j
        · rw [hij2, va_up_self] at e
          have := (hSt.1 i hi).2.1
          rw [e] at this; omega
        · rw [va_up_ne _ _ hij2] at hi2 e
          exact hSt.2 i i2 hi hi2 e
  refine r_aload_n hC 0 d_Tlearn_227 rfl rfl ?_
  refine r_aload_n hC 0 d_Tlearn_228 rfl rfl ?_
  refine r_aload_n hC 1 d_Tlearn_229 rfl rfl ?_
  refine r_cVi hC [.ref (ra j)] rfl (c_TplaceOf l Θ M5 d R U (va_up sa j q) ra _ (p1 ++ p2) hX5.1 hsr j (ra j) j hr5 hb) mi_TplaceOf lk_T187 in_TplaceOf (ci := 4) rfl rfl (by exact hT5.1) rfl (Nat.le_of_ble_eq_true rfl) ⟨Nat.le_of_ble_eq_true rfl, Nat.le_of_ble_eq_true rfl⟩ ⟨by show _ + 0 ≤ mc; omega, by show 0 + 0 + 0 + 7 + 0 + 0 + 0 + 0 ≤ ms; omega⟩ d_Tlearn_230 (fun r M8 h8 => ?_)
  obtain ⟨rfl, rfl⟩ := h8
  rw [← hpl]
  refine r_aload_n hC 2 d_Tlearn_233 rfl rfl ?_
  have hcl := capL_lt (p1 ++ p2).length (by omega)
  have hcl2 := capL_lt ((p1 ++ p2).length + 1) (by omega)
  have con := c_Tjudge l Θ M8 d R U (va_up sa j q) ra _ p1 p2 cp hX5 j hk2 (by rw [va_up_self]; exact ⟨e51, e52, e54, hr5⟩) (by rw [va_up_self]; exact e53) (fun i hi => by
    have hij : i ≠ j := fun z => by rw [z] at hi; exact hjn hi
    rw [va_up_self, va_up_ne _ _ hij]
    intro z
    have := (hSt.1 i ((hns i).mp hi).1).2.1
    rw [z] at this; omega) hl300 hcl hcl2 (capL_le _) cpE hcpE _ _ (Nat.le_refl _) (Nat.le_refl _)
  rw [va_up_self] at con
  refine r_cVv hC [.int (nI p1.length), .ref q] rfl (con) mi_Tjudge lk_T190 in_Tjudge (ci := 4) rfl rfl (by exact hT5.1) rfl (Nat.le_of_ble_eq_true rfl) ⟨Nat.le_of_ble_eq_true rfl, Nat.le_of_ble_eq_true rfl⟩ ⟨by show 0 + 0 + 0 + 1 + 0 + 0 + 0 + 0 + (gC (p1 ++ p2).length (capL (p1 ++ p2).length) + (kC cp - kC cpE)) ≤ mc; omega, by show 0 + 0 + 0 + 7 + 0 + 0 + 0 + 0 + (gS (p1 ++ p2).length (capL (p1 ++ p2).length) + (kS cp - kS cpE)) ≤ ms; omega⟩ d_Tlearn_234 (fun N hN => ?_)
  obtain ⟨hX6, f6, t1, t2, t3⟩ := hN
  have hmem : ∀ i, i ∈ p1 ++ j :: p2 ↔ i = j ∨ i ∈ p1 ++ p2 := fun i => by
    simp only [List.mem_append, List.mem_cons]
    constructor
    · rintro (z | z | z)
      · exact Or.inr (Or.inl z)
      · exact Or.inl z
      · exact Or.inr (Or.inr z)
    · rintro (z | z | z)
      · exact Or.inr (Or.inl z)
      · exact Or.inl z
      · exact Or.inr (Or.inr z)
  have hkm : ∀ i ∈ p1 ++ j :: p2, (va_up kn j true) i = true := fun i hi => by
    rcases (hmem i).mp hi with z | z
    · rw [z, va_up_self]
    · have hij : i ≠ j := fun e => by rw [e] at z; exact hjn z
      rw [va_up_ne _ _ hij]; exact ((hns i).mp z).1
  have hs6 : ∀ i ∈ p1 ++ j :: p2, kd M8 (va_up sa j q i) = 4 := fun i hi => (hSt5.1 i (hkm i hi)).2.1
  refine r_vret hC d_Tlearn_237 (by show 0 + 0 + 0 + 1 + 0 + 0 + 0 + 0 + (gC (p1 ++ p2).length (capL (p1 ++ p2).length) + (kC cp - kC cpE)) ≤ mc; omega) (by show 0 + 0 + 0 + 7 + 0 + 0 + 0 + 0 + (gS (p1 ++ p2).length (capL (p1 ++ p2).length) + (kS cp - kS cpE)) ≤ ms; omega) ⟨rfl, q, ⟨?_, hK5.fr f6 (fun z => ?_), hU5.fr f6 (fun z => ?_), ⟨t1.trans m5.1, t2.trans m5.2, t3⟩, ⟨fun i hi => ?_, hSt5.2⟩, fun i => ?_⟩, ?_⟩
  · rw [show (p1 ++ j :: p2).length = (p1 ++ p2).length + 1 by simp; omega]
    exact hX6
  · have := KZ.kind hX5 hs6 z
    have := hK5.1; omega
  · have := KZ.kind hX5 hs6 z
    have := hU5.1; omega
  · obtain ⟨s1, s2, s3, s4⟩ := hSt5.1 i hi
    refine ⟨s1, f6.k s2, (f6.1 _ (by omega)).2.trans s3, ?_⟩
    by_cases hin : i ∈ p1 ++ j :: p2
    · exact (hX6.1.2.2.1 i hin).2.1
    · have q6 := f6.2 _ (by rw [s2]; omega) (fun z => by
        rcases z with (z | ⟨x, hx, z⟩) | z | z | z
        · exact PZ.not hX5.2.1 s2 (by omega) z
        · rw [hSt5.2 i x hi (hkm x hx) z] at hin; exact hin hx
        · exact one_ne s2 hT5.1 (by omega) z
        · exact one_ne s2 hX5.1.2.1.1 (by omega) z
        · omega)
      rw [q6.2.2.1]; exact s4
  · rw [hmem]
    by_cases hij : i = j
    · subst hij; rw [va_up_self]; exact ⟨fun _ => ⟨rfl, hs4⟩, fun _ => Or.inl rfl⟩
    · rw [va_up_ne _ _ hij, ← hns i]; exact ⟨fun z => z.resolve_left hij, Or.inr⟩
  · refine (f5.mono fun b _ z => ?_).trans f6 (fun b hb z => ?_)
    · rcases z with z | z
      · exact Or.inr (Or.inr (Or.inl z))
      · exact Or.inr (Or.inr (Or.inr (Or.inr (Or.inr (Or.inl z)))))
    · refine LZ.old f5 b hb ?_
      rcases z with (z | ⟨x, hx, z⟩) | z | z | z
      · exact Or.inl z
      · have := hSt5.1 x (hkm x hx)
        exact Or.inr (Or.inl ⟨by rw [z]; exact this.2.1, by rw [z]; exact this.2.2.1⟩)
      · exact Or.inr (Or.inr (Or.inl z))
      · exact Or.inr (Or.inr (Or.inr (Or.inl z)))
      · exact Or.inr (Or.inr (Or.inr (Or.inr (Or.inl z))))
