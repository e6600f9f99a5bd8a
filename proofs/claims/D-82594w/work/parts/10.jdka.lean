theorem c_CcheckIndex (l : Launch) (Θ : Glob) (M : Mem) (k N : Nat) (h : k < N) (hN : N < 2 ^ 31) : Ct l Θ y_CcheckIndex 1 0 0 [.int (nI k), .int (nI N), .null] M (pI fun r M1 => r = nI k ∧ M1 = M) := by
  refine Ct.start (cc := b_CcheckIndex) (nL := 3) (ret := (some .int)) [some (.int (nI k)), some (.int (nI N)), some .null] mi_CcheckIndex.1 (by decide +kernel) (by intro v hv; simp at hv; rcases hv with rfl | rfl | rfl <;> rfl) (by simp) rfl (fun p e s m args below meth c hC => ?_)
  refine r_iload_n hC 0 d_CcheckIndex_0 rfl rfl ?_
  refine r_if_lt hC 9 d_CcheckIndex_1 (by decide) (fun q => ?_) (fun q => ?_)
  · exact absurd q (nI_pos (by omega))
  · skip
    refine r_iload_n hC 0 d_CcheckIndex_4 rfl rfl ?_
    refine r_iload_n hC 1 d_CcheckIndex_5 rfl rfl ?_
    refine r_icmp_lt hC 16 d_CcheckIndex_6 (by decide) (fun q2 => ?_) (fun q2 => ?_)
    · skip
      refine r_iload_n hC 0 d_CcheckIndex_16 rfl rfl ?_
      exact r_iret hC d_CcheckIndex_17 (Nat.le_refl _) (Nat.le_refl _) ⟨_, rfl, rfl, rfl⟩
    · exact absurd (nI_lt h hN) q2
theorem c_OcheckIndex (l : Launch) (Θ : Glob) (M : Mem) (k N : Nat) (h : k < N) (hN : N < 2 ^ 31) : Ct l Θ y_OcheckIndex 2 0 0 [.int (nI k), .int (nI N)] M (pI fun r M1 => r = nI k ∧ M1 = M) := by
  refine Ct.start (cc := b_OcheckIndex) (nL := 2) (ret := (some .int)) [some (.int (nI k)), some (.int (nI N))] mi_OcheckIndex.1 (by decide +kernel) (by intro v hv; simp at hv; rcases hv with rfl | rfl <;> rfl) (by simp) rfl (fun p e s m args below meth c hC => ?_)
  refine r_iload_n hC 0 d_OcheckIndex_0 rfl rfl ?_
  refine r_iload_n hC 1 d_OcheckIndex_1 rfl rfl ?_
  refine r_null hC d_OcheckIndex_2 ?_
  refine r_cSi hC [.int (nI k), .int (nI N), .null] rfl (c_CcheckIndex l Θ M k N h hN) mi_CcheckIndex lk_O105 in_CcheckIndex rfl (Nat.le_of_ble_eq_true rfl) ⟨Nat.le_of_ble_eq_true rfl, Nat.le_of_ble_eq_true rfl⟩ ⟨Nat.le_of_ble_eq_true rfl, Nat.le_of_ble_eq_true rfl⟩ d_OcheckIndex_3 (fun r M1 h1 => ?_)
  obtain ⟨rfl, rfl⟩ := h1
  exact r_iret hC d_OcheckIndex_6 (Nat.le_refl _) (Nat.le_refl _) ⟨_, rfl, rfl, rfl⟩
/-- the list at a holds xs; its array has room for cap -/
def Lst (M : Mem) (a : Nat) (xs : List Nat) (cap : Nat) : Prop := kd M a = 7 ∧ ∃ q : Nat, fR M 192 a = some q ∧ ((kd M q = 1000 + a ∧ 0 < cap ∧ ow M q = ow M a) ∨ (kd M q = 30 ∧ cap = 0)) ∧ fI M 193 a = nI xs.length ∧ ln M q = cap ∧ xs.length ≤ cap ∧ cap < 65536 ∧ ∀ i : Nat, i < xs.length → eR M q i = xs[i]?
theorem akd_big {k : Nat} (h : 1000 ≤ k) : akd k = some 2 := by
  unfold akd
  rw [if_neg (by omega), if_neg (by omega), if_neg (by omega), if_neg (by omega), if_neg (by omega), if_pos h]
theorem c_Asize (l : Launch) (Θ : Glob) (M : Mem) (a : Nat) (hk : kd M a = 7) : Ct l Θ y_Asize 1 0 0 [.ref a] M (pI fun r M1 => r = fI M 193 a ∧ M1 = M) := by
  refine Ct.start (cc := b_Asize) (nL := 1) (ret := (some .int)) [some (.ref a)] mi_Asize.1 (by decide +kernel) (by intro v hv; simp at hv; rcases hv with rfl <;> rfl) (by simp) rfl (fun p e s m args below meth c hC => ?_)
  refine r_aload_n hC 0 d_Asize_0 rfl rfl ?_
  refine r_getI hC 6 1 193 fl_A48 (by assumption) d_Asize_1 rfl rfl rfl ?_
  exact r_iret hC d_Asize_4 (Nat.le_refl _) (Nat.le_refl _) ⟨_, rfl, rfl, rfl⟩
theorem c_AelementData (l : Launch) (Θ : Glob) (M : Mem) (a q i : Nat) (hk : kd M a = 7) (hq : fR M 192 a = some q) (hk2 : kd M q = 1000 + a) (hi : i < ln M q) (hb : ln M q < 65536) : Ct l Θ y_AelementData 1 0 0 [.ref a, .int (nI i)] M (pR fun r M1 => r = eR M q i ∧ M1 = M) := by
  refine Ct.start (cc := b_AelementData) (nL := 2) (ret := (some (.object "java/lang/Object"))) [some (.ref a), some (.int (nI i))] mi_AelementData.1 (by decide +kernel) (by intro v hv; simp at hv; rcases hv with rfl | rfl <;> rfl) (by simp) rfl (fun p e s m args below meth c hC => ?_)
  refine r_aload_n hC 0 d_AelementData_0 rfl rfl ?_
  refine r_getS hC 6 0 192 fl_A9 (by exact hk) d_AelementData_1 rfl rfl (by exact hq) ?_
  refine r_iload_n hC 1 d_AelementData_4 rfl rfl ?_
  refine r_aald hC 2 i (by rw [hk2]; exact akd_big (by omega)) (by omega) rfl hi (by omega) d_AelementData_5 rfl ?_
  exact r_aret hC rfl d_AelementData_6 (Nat.le_refl _) (Nat.le_refl _) ⟨_, rfl, rfl, rfl⟩
theorem c_Aget (l : Launch) (Θ : Glob) (M : Mem) (a i : Nat) (xs : List Nat) (cap : Nat) (hL : Lst M a xs cap) (hi : i < xs.length) : Ct l Θ y_Aget 3 0 0 [.ref a, .int (nI i)] M (pR fun r M1 => r = xs[i]? ∧ M1 = M) := by
  obtain ⟨hk, q, hq, hkq, hsz, hln, hle, hcap, hel⟩ := hL
  have hk2 : kd M q = 1000 + a := by rcases hkq with h | h <;> omega
  refine Ct.start (cc := b_Aget) (nL := 2) (ret := (some (.object "java/lang/Object"))) [some (.ref a), some (.int (nI i))] mi_Aget.1 (by decide +kernel) (by intro v hv; simp at hv; rcases hv with rfl | rfl <;> rfl) (by simp) rfl (fun p e s m args below meth c hC => ?_)
  refine r_iload_n hC 1 d_Aget_0 rfl rfl ?_
  refine r_aload_n hC 0 d_Aget_1 rfl rfl ?_
  refine r_getI hC 6 1 193 fl_A48 (by exact hk) d_Aget_2 rfl rfl (by exact hsz) ?_
  refine r_cSi hC [.int (nI i), .int (nI xs.length)] rfl (c_OcheckIndex l Θ M i xs.length hi (by omega)) mi_OcheckIndex lk_A118 in_OcheckIndex rfl (Nat.le_of_ble_eq_true rfl) ⟨Nat.le_of_ble_eq_true rfl, Nat.le_of_ble_eq_true rfl⟩ ⟨Nat.le_of_ble_eq_true rfl, Nat.le_of_ble_eq_true rfl⟩ d_Aget_5 (fun r M1 h1 => ?_)
  obtain ⟨rfl, rfl⟩ := h1
  refine r_pop hC d_Aget_8 rfl ?_
  refine r_aload_n hC 0 d_Aget_9 rfl rfl ?_
  refine r_iload_n hC 1 d_Aget_10 rfl rfl ?_
  refine r_cVr hC [.int (nI i)] rfl (c_AelementData l Θ M1 a q i hk hq hk2 (by omega) (by omega)) mi_AelementData lk_A123 in_AelementData (ci := 6) rfl rfl (by exact hk) rfl (Nat.le_of_ble_eq_true rfl) ⟨Nat.le_of_ble_eq_true rfl, Nat.le_of_ble_eq_true rfl⟩ ⟨Nat.le_of_ble_eq_true rfl, Nat.le_of_ble_eq_true rfl⟩ d_Aget_11 (fun r M1 h1 => ?_)
  obtain ⟨rfl, rfl⟩ := h1
  exact r_aret hC rfl d_Aget_14 (Nat.le_refl _) (Nat.le_refl _) ⟨_, rfl, hel i hi, rfl⟩
