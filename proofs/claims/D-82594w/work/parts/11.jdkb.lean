theorem alen_of {M : Mem} {q a : Nat} {P P' : Prop} (h : (kd M q = 1000 + a ∧ P) ∨ (kd M q = 30 ∧ P')) : (∃ t, akd (kd M q) = some t) ∨ kd M q = 30 := by
  rcases h with h | h
  · exact Or.inl ⟨2, by rw [h.1]; exact akd_big (by omega)⟩
  · exact Or.inr h.1
theorem mem_ext {M N : Mem} (h1 : kd M = kd N) (h2 : fI M = fI N) (h3 : fR M = fR N) (h4 : ln M = ln N) (h5 : eI M = eI N) (h6 : eR M = eR N) (h7 : ow M = ow N) : M = N := by
  obtain ⟨a1, a2, a3, a4, a5, a6, a7⟩ := M
  obtain ⟨b1, b2, b3, b4, b5, b6, b7⟩ := N
  simp only [kd, fI, fR, ln, eI, eR, ow] at *
  subst h1 h2 h3 h4 h5 h6 h7
  rfl
theorem va_up_id {α : Type} (f : Nat → α) {k : Nat} {v : α} (h : f k = v) : va_up f k v = f := by
  funext j
  by_cases hj : j = k
  · subst hj; rw [va_up_self, h]
  · rw [va_up_ne _ _ hj]
theorem nI_max {a b : Nat} (ha : a < 2 ^ 31) (hb : b < 2 ^ 31) : (if nI a < nI b then nI b else nI a) = nI (max a b) := by
  by_cases h : a < b
  · rw [if_pos (nI_lt h hb), Nat.max_eq_right (Nat.le_of_lt h)]
  · rw [if_neg (nI_nlt (Nat.not_lt.mp h) ha), Nat.max_eq_left (Nat.not_lt.mp h)]
theorem nI_min {a b : Nat} (ha : a < 2 ^ 31) (hb : b < 2 ^ 31) : (if nI b < nI a then nI b else nI a) = nI (min a b) := by
  by_cases h : b < a
  · rw [if_pos (nI_lt h ha), Nat.min_eq_right (Nat.le_of_lt h)]
  · rw [if_neg (nI_nlt (Nat.not_lt.mp h) hb), Nat.min_eq_left (Nat.not_lt.mp h)]
/-- the next capacity -/
def ncap (cap : Nat) : Nat := if cap = 0 then 10 else cap + max 1 (cap / 2)
theorem ncap_gt (cap : Nat) : cap < ncap cap := by
  unfold ncap
  split <;> omega
theorem ncap_le {cap : Nat} (h : cap < 40000) : ncap cap < 65536 := by
  unfold ncap
  split <;> omega
/-- the list at a has got a new array at q -/
def gwL (M : Mem) (a q cap : Nat) (g : Nat → Option Nat) : Mem := (va_up (kd M) q (1000 + a), fI M, up2 (fR M) 192 a (some q), va_up (ln M) q cap, eI M, va_up (eR M) q g, va_up (ow M) q (ow M a))
/-- the list at a: its array q of cap places g, its size n, its count of changes z -/
def stL (M : Mem) (a q cap n : Nat) (z : Int32) (g : Nat → Option Nat) : Mem := (va_up (kd M) q (1000 + a), up2 (up2 (fI M) 194 a z) 193 a (nI n), up2 (fR M) 192 a (some q), va_up (ln M) q cap, eI M, va_up (eR M) q g, va_up (ow M) q (ow M a))
theorem c_UnewLength (l : Launch) (Θ : Glob) (M : Mem) (a b d : Nat) (h0 : 0 < a + max b d) (h1 : a + max b d < 65536) : Ct l Θ y_UnewLength 2 0 0 [.int (nI a), .int (nI b), .int (nI d)] M (pI fun r M1 => r = nI (a + max b d) ∧ M1 = M) := by
  refine Ct.start (cc := b_UnewLength) (nL := 4) (ret := (some .int)) [some (.int (nI a)), some (.int (nI b)), some (.int (nI d)), none] mi_UnewLength.1 (by decide +kernel) (by intro v hv; simp at hv; rcases hv with rfl | rfl | rfl <;> rfl) (by simp) rfl (fun p e s m args below meth c hC => ?_)
  refine r_iload_n hC 0 d_UnewLength_0 rfl rfl ?_
  refine r_iload_n hC 1 d_UnewLength_1 rfl rfl ?_
  refine r_iload_n hC 2 d_UnewLength_2 rfl rfl ?_
  refine r_max hC rfl lk_U194 ma_max.1 ma_max.2.1 ma_max.2.2 d_UnewLength_3 (Nat.le_of_ble_eq_true rfl) (Nat.le_of_ble_eq_true rfl) (Nat.le_of_ble_eq_true rfl) (Nat.le_of_ble_eq_true rfl) (nI_max (by omega) (by omega)) ?_
  refine r_iadd hC _ d_UnewLength_6 (nI_add a (max b d)) ?_
  refine r_is3 hC d_UnewLength_7 ?_
  refine r_iconst hC 0 d_UnewLength_8 (by decide) ?_
  refine r_iload_n hC 3 d_UnewLength_9 rfl rfl ?_
  refine r_icmp_ge hC 21 d_UnewLength_10 (by decide) (fun q => ?_) (fun q => ?_)
  · exact absurd q (nI_nle h0 (by omega))
  · skip
    refine r_iload_n hC 3 d_UnewLength_13 rfl rfl ?_
    refine r_ldcI hC 2147483639 co_U200 d_UnewLength_14 ?_
    refine r_icmp_gt hC 21 d_UnewLength_16 (by decide) (fun q2 => ?_) (fun q2 => ?_)
    · exact absurd q2 (by show ¬ nI 2147483639 < nI _; exact nI_nlt (by omega) (by omega))
    · skip
      refine r_iload_n hC 3 d_UnewLength_19 rfl rfl ?_
      exact r_iret hC d_UnewLength_20 (Nat.le_refl _) (Nat.le_refl _) ⟨_, rfl, rfl, rfl⟩
theorem c_VcopyOf3 (l : Launch) (Θ : Glob) (M : Mem) (a q N : Nat) (hk : kd M q = 1000 + a) (hle : ln M q ≤ N) (hN : N < 65536) (hel : ∀ i, i < ln M q → ∀ z, eR M q i = some z → okO M z) : Ct l Θ y_VcopyOf3 1 1 N [.ref q, .int (nI N), .ref Θ.mi] M (pR fun r M1 => ∃ q2 : Nat, r = some q2 ∧ kd M q2 = 0 ∧ M1 = sAR (nwR M q2 (1000 + a) N (ow M a)) q2 (va_cpy (eR M q) (fun _ => none) 0 0 (ln M q))) := by
  refine Ct.start (cc := b_VcopyOf3) (nL := 4) (ret := (some (.array (.object "java/lang/Object")))) [some (.ref q), some (.int (nI N)), some (.ref Θ.mi), none] mi_VcopyOf3.1 (by decide +kernel) (by intro v hv; simp at hv; rcases hv with rfl | rfl | rfl <;> rfl) (by simp) rfl (fun p e s m args below meth c hC => ?_)
  refine r_aload_n hC 2 d_VcopyOf3_0 rfl rfl ?_
  refine r_ldcM hC cl_V110 d_VcopyOf3_1 ?_
  refine r_acmp_ne hC (rx := some Θ.mi) (ry := some Θ.mi) 13 d_VcopyOf3_3 (by decide) (fun z => absurd rfl z) (fun _ => ?_)
  refine r_iload_n hC 1 d_VcopyOf3_6 rfl rfl ?_
  refine r_anew hC 2 (1000 + a) N (ow M a) rfl (akd_big (by omega)) (by omega) cl_V2 ao_J rfl (by omega) d_VcopyOf3_7 (by show 0 + 1 ≤ 1; omega) (by show 0 + N ≤ N; omega) (fun q2 hq2 _ => ?_)
  have hne : q ≠ q2 := by intro z; rw [z, hq2] at hk; omega
  have hkq : kd (nwR M q2 (1000 + a) N (ow M a)) q = 1000 + a := by show va_up (kd M) q2 _ q = _; rw [va_up_ne _ _ hne, hk]
  have hkq2 : kd (nwR M q2 (1000 + a) N (ow M a)) q2 = 1000 + a := va_up_self _ _ _
  have hlq : ln (nwR M q2 (1000 + a) N (ow M a)) q = ln M q := va_up_ne _ _ hne
  have hlq2 : ln (nwR M q2 (1000 + a) N (ow M a)) q2 = N := va_up_self _ _ _
  have heq : eR (nwR M q2 (1000 + a) N (ow M a)) q = eR M q := va_up_ne _ _ hne
  have heq2 : eR (nwR M q2 (1000 + a) N (ow M a)) q2 = fun _ => none := va_up_self _ _ _
  refine r_goto hC 24 d_VcopyOf3_10 (by decide) ?_
  refine r_as3 hC d_VcopyOf3_24 ?_
  refine r_aload_n hC 0 d_VcopyOf3_25 rfl rfl ?_
  refine r_iconst hC 0 d_VcopyOf3_26 (by decide) ?_
  refine r_aload_n hC 3 d_VcopyOf3_27 rfl rfl ?_
  refine r_iconst hC 0 d_VcopyOf3_28 (by decide) ?_
  refine r_aload_n hC 0 d_VcopyOf3_29 rfl rfl ?_
  refine r_alen hC (Or.inl ⟨2, by rw [hkq]; exact akd_big (by omega)⟩) d_VcopyOf3_30 hlq ?_
  refine r_iload_n hC 1 d_VcopyOf3_31 rfl rfl ?_
  refine r_min hC rfl lk_V304 ma_min.1 ma_min.2.1 ma_min.2.2 d_VcopyOf3_32 (Nat.le_of_ble_eq_true rfl) (Nat.le_of_ble_eq_true rfl) (by show 0 + 1 ≤ 1; omega) (by show 0 + N ≤ N; omega) (nI_min (by omega) (by omega)) ?_
  rw [Nat.min_eq_left hle]
  refine r_acopy hC 0 0 (ln M q) rfl (by rw [hkq]; exact akd_big (by omega)) (by rw [hkq2]; exact akd_big (by omega)) lk_V150 ay_1 ay_2 ay_3 rfl rfl rfl (by omega) (by omega) (by omega) (by omega) (fun i hi z hz => ?_) d_VcopyOf3_35 (Nat.le_of_ble_eq_true rfl) (Nat.le_of_ble_eq_true rfl) ?_
  · rw [Nat.zero_add, heq] at hz
    obtain ⟨ci, z1, z2⟩ := hel i hi z hz
    refine ⟨ci, ?_, z2⟩
    have : z ≠ q2 := by intro z3; rw [z3, hq2] at z1; omega
    show va_up (kd M) q2 _ z = _
    rw [va_up_ne _ _ this, z1]
  rw [heq, heq2]
  refine r_aload_n hC 3 d_VcopyOf3_38 rfl rfl ?_
  exact r_aret hC (r := some q2) rfl d_VcopyOf3_39 (by show 0 + 1 ≤ 1; omega) (by show 0 + N ≤ N; omega) ⟨_, rfl, q2, rfl, hq2, rfl⟩
theorem c_VcopyOf2 (l : Launch) (Θ : Glob) (M : Mem) (a q N : Nat) (hk : kd M q = 1000 + a) (hle : ln M q ≤ N) (hN : N < 65536) (hel : ∀ i, i < ln M q → ∀ z, eR M q i = some z → okO M z) : Ct l Θ y_VcopyOf2 2 1 N [.ref q, .int (nI N)] M (pR fun r M1 => ∃ q2 : Nat, r = some q2 ∧ kd M q2 = 0 ∧ M1 = sAR (nwR M q2 (1000 + a) N (ow M a)) q2 (va_cpy (eR M q) (fun _ => none) 0 0 (ln M q))) := by
  refine Ct.start (cc := b_VcopyOf2) (nL := 2) (ret := (some (.array (.object "java/lang/Object")))) [some (.ref q), some (.int (nI N))] mi_VcopyOf2.1 (by decide +kernel) (by intro v hv; simp at hv; rcases hv with rfl | rfl <;> rfl) (by simp) rfl (fun p e s m args below meth c hC => ?_)
  refine r_aload_n hC 0 d_VcopyOf2_0 rfl rfl ?_
  refine r_iload_n hC 1 d_VcopyOf2_1 rfl rfl ?_
  refine r_aload_n hC 0 d_VcopyOf2_2 rfl rfl ?_
  refine r_getC hC rfl (by rw [hk]; exact akd_big (by omega)) lk_V86 gc_1 gc_2 gc_3 gc_4 d_VcopyOf2_3 (Nat.le_of_ble_eq_true rfl) (Nat.le_of_ble_eq_true rfl) ?_
  refine r_cSr hC [.ref q, .int (nI N), .ref Θ.mi] rfl (c_VcopyOf3 l Θ M a q N hk hle hN hel) mi_VcopyOf3 lk_V300 in_VcopyOf3 rfl (Nat.le_of_ble_eq_true rfl) ⟨Nat.le_of_ble_eq_true rfl, Nat.le_of_ble_eq_true rfl⟩ ⟨by show 0 + 1 ≤ 1; omega, by show 0 + N ≤ N; omega⟩ d_VcopyOf2_6 (fun r M1 h1 => ?_)
  exact r_aret hC rfl d_VcopyOf2_9 (by show 0 + 1 ≤ 1; omega) (by show 0 + N ≤ N; omega) ⟨_, rfl, h1⟩
theorem c_Agrow1 (l : Launch) (Θ : Glob) (M : Mem) (a q cap : Nat) (hk : kd M a = 7) (hq : fR M 192 a = some q) (hkq : (kd M q = 1000 + a ∧ 0 < cap) ∨ (kd M q = 30 ∧ cap = 0)) (hln : ln M q = cap) (hcap : cap < 40000) (hel : ∀ i, i < cap → ∀ z, eR M q i = some z → okO M z) : Ct l Θ y_Agrow1 3 1 (ncap cap) [.ref a, .int (nI (cap + 1))] M (pR fun r M1 => ∃ (q2 : Nat) (g : Nat → Option Nat), r = some q2 ∧ kd M q2 = 0 ∧ (∀ i, i < cap → g i = eR M q i) ∧ M1 = gwL M a q2 (ncap cap) g) := by
  refine Ct.start (cc := b_Agrow1) (nL := 4) (ret := (some (.array (.object "java/lang/Object")))) [some (.ref a), some (.int (nI (cap + 1))), none, none] mi_Agrow1.1 (by decide +kernel) (by intro v hv; simp at hv; rcases hv with rfl | rfl <;> rfl) (by simp) rfl (fun p e s m args below meth c hC => ?_)
  refine r_aload_n hC 0 d_Agrow1_0 rfl rfl ?_
  refine r_getS hC 6 0 192 fl_A9 (by exact hk) d_Agrow1_1 rfl rfl (by exact hq) ?_
  refine r_alen hC (alen_of hkq) d_Agrow1_4 hln ?_
  refine r_is2 hC d_Agrow1_5 ?_
  refine r_iload_n hC 2 d_Agrow1_6 rfl rfl ?_
  refine r_if_gt hC 20 d_Agrow1_7 (by decide) (fun g => ?_) (fun g => ?_)
  · have hc0 : cap ≠ 0 := fun z => by rw [z] at g; exact absurd g (by decide)
    have hkq2 : kd M q = 1000 + a := by rcases hkq with h | h <;> omega
    have hnc : ncap cap = cap + max 1 (cap / 2) := if_neg hc0
    refine r_iload_n hC 2 d_Agrow1_20 rfl rfl ?_
    refine r_iload_n hC 1 d_Agrow1_21 rfl rfl ?_
    refine r_iload_n hC 2 d_Agrow1_22 rfl rfl ?_
    refine r_isub hC (nI 1) d_Agrow1_23 (by rw [pk_sub (by omega)]; congr 1; omega) ?_
    refine r_iload_n hC 2 d_Agrow1_24 rfl rfl ?_
    refine r_iconst hC 1 d_Agrow1_25 (by decide) ?_
    refine r_ishr hC (nI (cap / 2)) d_Agrow1_26 (by rw [pk_shrN (by omega) _ 1 (by decide)]) ?_
    refine r_cSi hC [.int (nI cap), .int (nI 1), .int (nI (cap / 2))] rfl (c_UnewLength l Θ M cap 1 (cap / 2) (by omega) (by omega)) mi_UnewLength lk_A73 in_UnewLength rfl (Nat.le_of_ble_eq_true rfl) ⟨Nat.le_of_ble_eq_true rfl, Nat.le_of_ble_eq_true rfl⟩ ⟨Nat.le_of_ble_eq_true rfl, Nat.le_of_ble_eq_true rfl⟩ d_Agrow1_27 (fun r M1 h1 => ?_)
    obtain ⟨rfl, rfl⟩ := h1
    rw [← hnc]
    refine r_is3 hC d_Agrow1_30 ?_
    refine r_aload_n hC 0 d_Agrow1_31 rfl rfl ?_
    refine r_aload_n hC 0 d_Agrow1_32 rfl rfl ?_
    refine r_getS hC 6 0 192 fl_A9 (by exact hk) d_Agrow1_33 rfl rfl (by exact hq) ?_
    refine r_iload_n hC 3 d_Agrow1_36 rfl rfl ?_
    refine r_cSr hC [.ref q, .int (nI (ncap cap))] rfl (c_VcopyOf2 l Θ M1 a q (ncap cap) hkq2 (by have := ncap_gt cap; omega) (ncap_le (by omega)) (by rw [hln]; exact hel)) mi_VcopyOf2 lk_A66 in_VcopyOf2 rfl (Nat.le_of_ble_eq_true rfl) ⟨Nat.le_of_ble_eq_true rfl, Nat.le_of_ble_eq_true rfl⟩ ⟨by show 0 + 0 + 1 ≤ 1; omega, by show 0 + 0 + ncap cap ≤ ncap cap; omega⟩ d_Agrow1_37 (fun r M2 h2 => ?_)
    obtain ⟨q2, rfl, hq2, rfl⟩ := h2
    have hne : a ≠ q2 := by intro z; rw [z, hq2] at hk; omega
    have hka : kd (sAR (nwR M1 q2 (1000 + a) (ncap cap) (ow M1 a)) q2 (va_cpy (eR M1 q) (fun _ => none) 0 0 (ln M1 q))) a = 7 := by show va_up (kd M1) q2 _ a = _; rw [va_up_ne _ _ hne, hk]
    refine r_dup_x1 hC d_Agrow1_40 rfl rfl ?_
    refine r_putR hC 6 0 192 fl_A9 rfl (by exact hka) d_Agrow1_41 (v := (some q2)) rfl rfl ?_
    refine r_aret hC (r := some q2) rfl d_Agrow1_44 (by show 0 + 0 + 1 ≤ 1; omega) (by show 0 + 0 + ncap cap ≤ ncap cap; omega) ⟨_, rfl, q2, va_cpy (eR M1 q) (fun _ => none) 0 0 (ln M1 q), rfl, hq2, fun i hi => ?_, ?_⟩
    · rw [pk_cpy_in (by omega) (by omega)]; congr 1; omega
    · refine mem_ext rfl rfl rfl rfl rfl ?_ rfl
      show va_up (va_up (eR M1) q2 _) q2 _ = va_up (eR M1) q2 _
      rw [bx_uu]
  · have hc0 : cap = 0 := by
      rcases Nat.eq_zero_or_pos cap with z | z
      · exact z
      · exact absurd (nI_lt z (by omega)) g
    subst hc0
    have hk30 : kd M q = 30 := by rcases hkq with h | h <;> omega
    refine r_emp hk30 (fun hE _ => ?_)
    subst hE
    refine r_aload_n hC 0 d_Agrow1_10 rfl rfl ?_
    refine r_getS hC 6 0 192 fl_A9 (by exact hk) d_Agrow1_11 rfl rfl (by exact hq) ?_
    refine r_gets hC gs_A39 d_Agrow1_14 ?_
    refine r_acmp_eq hC (rx := some Θ.E) (ry := some Θ.E) 45 d_Agrow1_17 (by decide) (fun _ => ?_) (fun z => absurd rfl z)
    refine r_aload_n hC 0 d_Agrow1_45 rfl rfl ?_
    refine r_bipush hC 10 d_Agrow1_46 (by decide) ?_
    refine r_iload_n hC 1 d_Agrow1_48 rfl rfl ?_
    refine r_max hC rfl lk_A79 ma_max.1 ma_max.2.1 ma_max.2.2 d_Agrow1_49 (Nat.le_of_ble_eq_true rfl) (Nat.le_of_ble_eq_true rfl) (Nat.le_of_ble_eq_true rfl) (Nat.le_of_ble_eq_true rfl) (v := nI 10) (by decide) ?_
    refine r_anew hC 2 (1000 + a) 10 (ow M a) rfl (akd_big (by omega)) (by omega) cl_A7 ao_J rfl (by omega) d_Agrow1_52 (by show 0 + 1 ≤ 1; omega) (by show 0 + 10 ≤ 10; omega) (fun q2 hq2 _ => ?_)
    have hne : a ≠ q2 := by intro z; rw [z, hq2] at hk; omega
    have hka : kd (nwR M q2 (1000 + a) 10 (ow M a)) a = 7 := by show va_up (kd M) q2 _ a = _; rw [va_up_ne _ _ hne, hk]
    refine r_dup_x1 hC d_Agrow1_55 rfl rfl ?_
    refine r_putR hC 6 0 192 fl_A9 rfl (by exact hka) d_Agrow1_56 (v := (some q2)) rfl rfl ?_
    exact r_aret hC (r := some q2) rfl d_Agrow1_59 (by show 0 + 1 ≤ 1; omega) (by show 0 + 10 ≤ 10; omega) ⟨_, rfl, q2, fun _ => none, rfl, hq2, fun i hi => by omega, rfl⟩
theorem c_Agrow0 (l : Launch) (Θ : Glob) (M : Mem) (a q cap : Nat) (hk : kd M a = 7) (hq : fR M 192 a = some q) (hkq : (kd M q = 1000 + a ∧ 0 < cap) ∨ (kd M q = 30 ∧ cap = 0)) (hsz : fI M 193 a = nI cap) (hln : ln M q = cap) (hcap : cap < 40000) (hel : ∀ i, i < cap → ∀ z, eR M q i = some z → okO M z) : Ct l Θ y_Agrow0 4 1 (ncap cap) [.ref a] M (pR fun r M1 => ∃ (q2 : Nat) (g : Nat → Option Nat), r = some q2 ∧ kd M q2 = 0 ∧ (∀ i, i < cap → g i = eR M q i) ∧ M1 = gwL M a q2 (ncap cap) g) := by
  refine Ct.start (cc := b_Agrow0) (nL := 1) (ret := (some (.array (.object "java/lang/Object")))) [some (.ref a)] mi_Agrow0.1 (by decide +kernel) (by intro v hv; simp at hv; rcases hv with rfl <;> rfl) (by simp) rfl (fun p e s m args below meth c hC => ?_)
  refine r_aload_n hC 0 d_Agrow0_0 rfl rfl ?_
  refine r_aload_n hC 0 d_Agrow0_1 rfl rfl ?_
  refine r_getI hC 6 1 193 fl_A48 (by exact hk) d_Agrow0_2 rfl rfl (by exact hsz) ?_
  refine r_iconst hC 1 d_Agrow0_5 (by decide) ?_
  refine r_iadd hC _ d_Agrow0_6 (nI_1 cap) ?_
  refine r_cVr hC [.int (nI (cap + 1))] rfl (c_Agrow1 l Θ M a q cap hk hq hkq hln hcap hel) mi_Agrow1 lk_A69 in_Agrow1 (ci := 6) rfl rfl (by exact hk) rfl (Nat.le_of_ble_eq_true rfl) ⟨Nat.le_of_ble_eq_true rfl, Nat.le_of_ble_eq_true rfl⟩ ⟨by show 0 + 1 ≤ 1; omega, by show 0 + ncap cap ≤ ncap cap; omega⟩ d_Agrow0_7 (fun r M1 h1 => ?_)
  exact r_aret hC rfl d_Agrow0_10 (by show 0 + 1 ≤ 1; omega) (by show 0 + ncap cap ≤ ncap cap; omega) ⟨_, rfl, h1⟩
theorem c_ArangeCheckForAdd (l : Launch) (Θ : Glob) (M : Mem) (a k n : Nat) (hk : kd M a = 7) (hsz : fI M 193 a = nI n) (hle : k ≤ n) (hn : n < 65536) : Ct l Θ y_ArangeCheckForAdd 1 0 0 [.ref a, .int (nI k)] M (pV fun M1 => M1 = M) := by
  refine Ct.start (cc := b_ArangeCheckForAdd) (nL := 2) (ret := none) [some (.ref a), some (.int (nI k))] mi_ArangeCheckForAdd.1 (by decide +kernel) (by intro v hv; simp at hv; rcases hv with rfl | rfl <;> rfl) (by simp) rfl (fun p e s m args below meth c hC => ?_)
  refine r_iload_n hC 1 d_ArangeCheckForAdd_0 rfl rfl ?_
  refine r_aload_n hC 0 d_ArangeCheckForAdd_1 rfl rfl ?_
  refine r_getI hC 6 1 193 fl_A48 (by exact hk) d_ArangeCheckForAdd_2 rfl rfl (by exact hsz) ?_
  refine r_icmp_gt hC 12 d_ArangeCheckForAdd_5 (by decide) (fun q => ?_) (fun q => ?_)
  · exact absurd q (nI_nlt hle (by omega))
  · skip
    refine r_iload_n hC 1 d_ArangeCheckForAdd_8 rfl rfl ?_
    refine r_if_ge hC 25 d_ArangeCheckForAdd_9 (by decide) (fun q2 => ?_) (fun q2 => ?_)
    · exact r_vret hC d_ArangeCheckForAdd_25 (Nat.le_refl _) (Nat.le_refl _) ⟨rfl, rfl⟩
    · exact absurd (nI_pos' (by omega)) q2
