theorem c_Qinit (l : Launch) (Θ : Glob) (M : Mem) (a : Nat) : Ct l Θ y_Qinit 2 0 0 [.ref a] M (pV fun M1 => M1 = M) := by
  refine Ct.start (cc := b_Qinit) (nL := 1) (ret := none) [some (.ref a)] mi_Qinit.1 (by decide +kernel) (by intro v hv; simp at hv; rcases hv with rfl <;> rfl) (by simp) rfl (fun p e s m args below meth c hC => ?_)
  refine r_aload_n hC 0 d_Qinit_0 rfl rfl ?_
  refine r_objInit hC rfl lk_Q1 ob_in ob_co d_Qinit_1 (Nat.le_of_ble_eq_true rfl) (Nat.le_of_ble_eq_true rfl) ?_
  exact r_vret hC d_Qinit_4 (Nat.le_refl _) (Nat.le_refl _) ⟨rfl, rfl⟩
theorem c_Rinit (l : Launch) (Θ : Glob) (M : Mem) (q : Nat) (i1 i2 i3 i4 i5 i6 i7 : Int32) (hk : kd M q = 3) : Ct l Θ y_Rinit 4 0 0 [.ref q, .int i1, .int i2, .int i3, .int i4, .int i5, .int i6, .int i7] M (pV fun M1 => Fr (fun b => b = q) M M1 ∧ kd M1 q = 3 ∧ fI M1 64 q = i1 ∧ fI M1 65 q = i2 ∧ fI M1 66 q = i3 ∧ fI M1 67 q = i4 ∧ fI M1 68 q = i5 ∧ fI M1 69 q = i6 ∧ fI M1 70 q = i7) := by
  refine Ct.start (cc := b_Rinit) (nL := 8) (ret := none) [some (.ref q), some (.int i1), some (.int i2), some (.int i3), some (.int i4), some (.int i5), some (.int i6), some (.int i7)] mi_Rinit.1 (by decide +kernel) (by intro v hv; simp at hv; rcases hv with rfl | rfl | rfl | rfl | rfl | rfl | rfl | rfl <;> rfl) (by simp) rfl (fun p e s m args below meth c hC => ?_)
  refine r_aload_n hC 0 d_Rinit_0 rfl rfl ?_
  refine r_cIv hC [] rfl (c_Qinit l Θ M q) mi_Qinit lk_R1 in_Qinit rfl (Nat.le_of_ble_eq_true rfl) ⟨Nat.le_of_ble_eq_true rfl, Nat.le_of_ble_eq_true rfl⟩ ⟨Nat.le_of_ble_eq_true rfl, Nat.le_of_ble_eq_true rfl⟩ d_Rinit_1 (fun M1 h1 => ?_)
  subst h1
  refine r_aload_n hC 0 d_Rinit_4 rfl rfl ?_
  refine r_iload_n hC 1 d_Rinit_5 rfl rfl ?_
  refine r_putFI hC 2 0 64 fl_R7 rfl rfl rfl (by exact hk) d_Rinit_6 rfl rfl rfl rfl ?_
  refine r_aload_n hC 0 d_Rinit_9 rfl rfl ?_
  refine r_iload_n hC 2 d_Rinit_10 rfl rfl ?_
  refine r_putFI hC 2 1 65 fl_R13 rfl rfl rfl (by exact hk) d_Rinit_11 rfl rfl rfl rfl ?_
  refine r_aload_n hC 0 d_Rinit_14 rfl rfl ?_
  refine r_iload_n hC 3 d_Rinit_15 rfl rfl ?_
  refine r_putFI hC 2 2 66 fl_R16 rfl rfl rfl (by exact hk) d_Rinit_16 rfl rfl rfl rfl ?_
  refine r_aload_n hC 0 d_Rinit_19 rfl rfl ?_
  refine r_iload hC 4 d_Rinit_20 rfl ?_
  refine r_putFI hC 2 3 67 fl_R19 rfl rfl rfl (by exact hk) d_Rinit_22 rfl rfl rfl rfl ?_
  refine r_aload_n hC 0 d_Rinit_25 rfl rfl ?_
  refine r_iload hC 5 d_Rinit_26 rfl ?_
  refine r_putFI hC 2 4 68 fl_R22 rfl rfl rfl (by exact hk) d_Rinit_28 rfl rfl rfl rfl ?_
  refine r_aload_n hC 0 d_Rinit_31 rfl rfl ?_
  refine r_iload hC 6 d_Rinit_32 rfl ?_
  refine r_putFI hC 2 5 69 fl_R25 rfl rfl rfl (by exact hk) d_Rinit_34 rfl rfl rfl rfl ?_
  refine r_aload_n hC 0 d_Rinit_37 rfl rfl ?_
  refine r_iload hC 7 d_Rinit_38 rfl ?_
  refine r_putFI hC 2 6 70 fl_R28 rfl rfl rfl (by exact hk) d_Rinit_40 rfl rfl rfl rfl ?_
  refine r_vret hC d_Rinit_43 (Nat.le_refl _) (Nat.le_refl _) ⟨rfl, ?_, hk, up2_self _ _ _ _, up2_self _ _ _ _, up2_self _ _ _ _, up2_self _ _ _ _, up2_self _ _ _ _, up2_self _ _ _ _, up2_self _ _ _ _⟩
  exact ((((((sI_fr _ _ _ _).trans (sI_fr _ _ _ _) (fun _ _ z => z)).trans (sI_fr _ _ _ _) (fun _ _ z => z)).trans (sI_fr _ _ _ _) (fun _ _ z => z)).trans (sI_fr _ _ _ _) (fun _ _ z => z)).trans (sI_fr _ _ _ _) (fun _ _ z => z)).trans (sI_fr _ _ _ _) (fun _ _ z => z)
/-! a row more -/
noncomputable def gAdd (G : GS) (k s o : Nat) (p b : Option Nat) : GS := (qN G + 1, va_up (qR G) (qN G + 1) (s, k, vT (qD G k) + 1, o, p, b), qO G, va_up (qD G) k (lrn (va_up (qR G) (qN G + 1) (s, k, vT (qD G k) + 1, o, p, b)) (qD G k) (qN G + 1)))
theorem NI.up {R Q : Nat → RowT} {n : Nat} {N : NS} (h : NI R n N) (hq : ∀ i, i ≤ n → Q i = R i) : NI Q (n + 1) N := by
  obtain ⟨h1, h2, h3, h4, h5, h6⟩ := h
  have hk : ∀ i, vK N i = true → Q i = R i := fun i hi => hq i (h1 i hi).2
  refine ⟨fun i hi => ⟨(h1 i hi).1, by have := (h1 i hi).2; omega⟩, ?_, fun i => ?_, fun t => ?_, by omega, by omega⟩
  · refine List.Pairwise.imp_of_mem (fun {a b} ha hb hab => ?_) h2
    rw [hk a ((h3 a).mp ha).1, hk b ((h3 b).mp hb).1]
    exact hab
  · rw [h3 i]
    constructor
    · intro z; rw [hk i z.1]; exact z
    · intro z; rw [hk i z.1] at z; exact z
  · rw [h4 t]
    constructor
    · rintro ⟨u, u1, u2, u3⟩; exact ⟨u, u1, by rw [hk u u1]; exact u2, by rw [hk u u1]; exact u3⟩
    · rintro ⟨u, u1, u2, u3⟩; rw [hk u u1] at u2 u3; exact ⟨u, u1, u2, u3⟩
def BTu (M : Mem) (X : Nat) (A : BA) (G : GS) (un : Nat → Bool) : Prop :=
  BH M X A (qN G) (qO G) un ∧ (∀ i, 1 ≤ i → i ≤ qN G → RwO M (bR A i) i (qR G i)) ∧ (∀ k, k < 4 → nG (bD A k) = k + 1) ∧ ∀ k, k < 4 → NDS M (bD A k) (qR G) (bR A) (bS A k) (qD G k)
theorem pcC_le (c : Nat) : pcC c ≤ 5 := by
  unfold pcC
  repeat' split
  all_goals omega
theorem pcS_le (c : Nat) : pcS c ≤ 129 := by
  unfold pcS
  repeat' split
  all_goals omega
theorem sumF_b {f : Nat → Nat} {c : Nat} (h : ∀ i, f i ≤ c) : ∀ n, sumF f n ≤ n * c
  | 0 => by simp [sumF]
  | n + 1 => by
    have h1 := sumF_b h n
    have h2 := h n
    show sumF f n + f n ≤ (n + 1) * c
    rw [Nat.succ_mul]
    omega
theorem pC_le (N : NS) : pC N ≤ 225 ∧ pS N ≤ 6489 := by
  have h1 : kC (vC N) ≤ 41 * 5 := sumF_b (fun o => pcC_le _) 41
  have h2 : kS (vC N) ≤ 41 * 129 := sumF_b (fun o => pcS_le _) 41
  have h3 := cG_300
  have h4 := sG_300
  have := pC_def N
  omega
/-- a tree learns a row -/
theorem BTu.learn {M M1 : Mem} {X : Nat} {A : BA} {G : GS} {un : Nat → Bool} {k j q : Nat} (hB : BTu M X A G un) (hk : k < 4) (hN : NDS M1 (bD A k) (qR G) (bR A) (va_up (bS A k) j q) (lrn (qR G) (qD G k) j)) (hf : Fr (LZ M (bD A k)) M M1) :
    BTu M1 X (bL A, bT A, bU A, bR A, bD A, va_up (bS A) k (va_up (bS A k) j q)) (qN G, qR G, qO G, va_up (qD G) k (lrn (qR G) (qD G k) j)) un ∧ Fr (BZ M) M M1 := by
  obtain ⟨hH, hRw, hGl, hNd⟩ := hB
  have hfor : ∀ g, g ≠ k + 1 → For M g (LZ M (bD A k)) := fun g hg => LZ.lb (hNd k hk) (by rw [hGl k hk]; exact hg)
  refine ⟨⟨hH.fr hf (hfor 10 (by omega)), fun i hi1 hin => (hRw i hi1 hin).fr hf (fun z => ((hfor 10 (by omega)).2.2 _ z).1 (hRw i hi1 hin).1), hGl, fun k2 hk2 => ?_⟩, hf.mono (For.bz (hfor 11 (by omega)))⟩
  by_cases e : k2 = k
  · subst e
    show NDS M1 (bD A k2) (qR G) (bR A) (va_up (bS A) k2 _ k2) (va_up (qD G) k2 _ k2)
    rw [va_up_self, va_up_self]
    exact hN
  · show NDS M1 (bD A k2) (qR G) (bR A) (va_up (bS A) k _ k2) (va_up (qD G) k _ k2)
    rw [va_up_ne _ _ e, va_up_ne _ _ e]
    exact (hNd k2 hk2).fr hf (hfor _ (by rw [hGl k2 hk2]; omega))
theorem c_Badd (l : Launch) (Θ : Glob) (M : Mem) (X : Nat) (A : BA) (G : GS) (un : Nat → Bool) (hG : GI G) (hB : BTu M X A G un) (kk ss oo : Nat) (pp bb : Option Nat) (hk : kk < 4) (hn : qN G < 300) (hRI : RI (va_up (qR G) (qN G + 1) (ss, kk, vT (qD G kk) + 1, oo, pp, bb)) (qN G + 1)) : Ct l Θ y_Badd 18 300 8000 [.ref X, .int (nI kk), .int (nI ss), .int (nI oo), .int (oO pp), .int (oO bb)] M (pI fun r M1 => r = nI (qN G + 1) ∧ (∃ A', BTu M1 X A' (gAdd G kk ss oo pp bb) un) ∧ Fr (BZ M) M M1) := by
  have hB0 := hB
  obtain ⟨⟨⟨a1, a2, a3, a4, a5, a6⟩, ⟨b1, b2⟩, ⟨c1, c2, c3, c4⟩, ⟨e1, e2, e3, e4⟩⟩, hRw, hGl, hNd⟩ := hB
  have hsz := b1.len
  rw [rwL_len] at hsz
  obtain ⟨hX, -, -, ⟨m1, m2, m3⟩, -, -⟩ := hNd kk hk
  refine Ct.start (cc := b_Badd) (nL := 7) (ret := (some .int)) [some (.ref X), some (.int (nI kk)), some (.int (nI ss)), some (.int (nI oo)), some (.int (oO pp)), some (.int (oO bb)), none] mi_Badd.1 (by decide +kernel) (by intro v hv; simp at hv; rcases hv with rfl | rfl | rfl | rfl | rfl | rfl <;> rfl) (by simp) rfl (fun p e s m args below meth c hC => ?_)
  refine r_new hC 2 10 rfl cl_B37 nw_2.1 nw_2.2 d_Badd_0 (by show 0 + 1 ≤ 300; omega) (by show 0 + 7 ≤ 8000; omega) (fun q hq0 hqB => ?_)
  have f1 : Fr (fun _ => False) M (nwO M q 3 10) := nwO_fr hq0
  have ff : ∀ g, For M g (fun _ => False) := fun g => ⟨fun _ z => z.elim, fun _ _ z => z.elim, fun _ z => z.elim⟩
  have hB1 : BTu (nwO M q 3 10) X A G un := ⟨hB0.1.fr f1 (ff 10), fun i hi1 hin => (hB0.2.1 i hi1 hin).fr f1 (fun z => z), hGl, fun k2 hk2 => (hNd k2 hk2).fr f1 (ff _)⟩
  have hqk : kd (nwO M q 3 10) q = 3 := va_up_self _ _ _
  generalize nwO M q 3 10 = M1 at hB1 f1 hqk ⊢
  obtain ⟨⟨⟨a1, a2, a3, a4, a5, a6⟩, ⟨b1, b2⟩, ⟨c1, c2, c3, c4⟩, ⟨e1, e2, e3, e4⟩⟩, hRw, -, hNd⟩ := id hB1
  have hsz := b1.len
  rw [rwL_len] at hsz
  obtain ⟨hX, -, -, ⟨m1, m2, m3⟩, -, -⟩ := hNd kk hk
  refine r_dup hC d_Badd_3 rfl ?_
  refine r_aload_n hC 0 d_Badd_4 rfl rfl ?_
  refine r_getS hC 0 0 0 fl_B10 (by exact a1) d_Badd_5 rfl rfl (by exact a3) ?_
  refine r_cVi hC [] rfl (c_Asize l Θ M1 (bL A) b1.1) mi_Asize lk_B33 in_Asize (ci := 6) rfl rfl (by exact b1.1) rfl (Nat.le_of_ble_eq_true rfl) ⟨Nat.le_of_ble_eq_true rfl, Nat.le_of_ble_eq_true rfl⟩ ⟨Nat.le_of_ble_eq_true rfl, Nat.le_of_ble_eq_true rfl⟩ d_Badd_8 (fun r M2 h2 => ?_)
  obtain ⟨rfl, rfl⟩ := h2
  rw [hsz]
  refine r_iconst hC 1 d_Badd_11 (by decide) ?_
  refine r_iadd hC (nI (qN G + 1)) d_Badd_12 (nI_1 _) ?_
  refine r_iload_n hC 1 d_Badd_13 rfl rfl ?_
  refine r_aload_n hC 0 d_Badd_14 rfl rfl ?_
  refine r_getS hC 0 1 1 fl_B18 (by exact a1) d_Badd_15 rfl rfl (by exact a4) ?_
  refine r_iload_n hC 1 d_Badd_18 rfl rfl ?_
  refine r_aaldS hC 5 kk (by rw [c1]; rfl) (by omega) rfl (by rw [c3]; exact hk) (by rw [c3]; omega) d_Badd_19 (c4 kk hk) ?_
  refine r_getI hC 4 7 135 fl_B39 (by exact hX.1.1.1) d_Badd_20 rfl rfl (by exact m2) ?_
  refine r_iconst hC 1 d_Badd_23 (by decide) ?_
  refine r_iadd hC (nI (vT (qD G kk) + 1)) d_Badd_24 (nI_1 _) ?_
  refine r_iload_n hC 2 d_Badd_25 rfl rfl ?_
  refine r_iload_n hC 3 d_Badd_26 rfl rfl ?_
  refine r_iload hC 4 d_Badd_27 rfl ?_
  refine r_iload hC 5 d_Badd_29 rfl ?_
  refine r_cINv hC [.int (nI (qN G + 1)), .int (nI kk), .int (nI (vT (qD G kk) + 1)), .int (nI ss), .int (nI oo), .int (oO pp), .int (oO bb)] rfl (c_Rinit l Θ M2 q (nI (qN G + 1)) (nI kk) (nI (vT (qD G kk) + 1)) (nI ss) (nI oo) (oO pp) (oO bb) hqk) mi_Rinit lk_B42 in_Rinit rfl (Nat.le_of_ble_eq_true rfl) ⟨Nat.le_of_ble_eq_true rfl, Nat.le_of_ble_eq_true rfl⟩ ⟨Nat.le_of_ble_eq_true rfl, Nat.le_of_ble_eq_true rfl⟩ d_Badd_31 (fun M3 h3 => ?_)
  obtain ⟨g3, k3, r1, r2, r3, r4, r5, r6, r7⟩ := h3
  have f3 : Fr (fun _ => False) M M3 := f1.trans g3 (fun b hb z => by have z : b = q := z; rw [z] at hb; exact hb hq0)
  have hB3 : BTu M3 X A G un := ⟨hB0.1.fr f3 (ff 10), fun i hi1 hin => (hB0.2.1 i hi1 hin).fr f3 (fun z => z), hGl, fun k2 hk2 => (hB0.2.2.2 k2 hk2).fr f3 (ff _)⟩
  have hrq : RwO M3 q (qN G + 1) (ss, kk, vT (qD G kk) + 1, oo, pp, bb) := ⟨k3, r1, r2, r3, r4, r5, r6, r7⟩
  clear hB1 a1 a2 a3 a4 a5 a6 b1 b2 c1 c2 c3 c4 e1 e2 e3 e4 hRw hNd hX m1 m2 m3 hsz
  obtain ⟨⟨⟨a1, a2, a3, a4, a5, a6⟩, ⟨b1, b2⟩, ⟨c1, c2, c3, c4⟩, ⟨e1, e2, e3, e4⟩⟩, hRw, -, hNd⟩ := id hB3
  refine r_as6 hC d_Badd_34 ?_
  refine r_aload_n hC 0 d_Badd_36 rfl rfl ?_
  refine r_getS hC 0 0 0 fl_B10 (by exact a1) d_Badd_37 rfl rfl (by exact a3) ?_
  refine r_aload hC 6 d_Badd_40 rfl ?_
  have hcl := capL_lt (qN G) (by omega)
  have hcl2 : gcap (qN G) (capL (qN G)) < 1000 := capL_lt (qN G + 1) (by omega)
  have hgC : gC (qN G) (capL (qN G)) ≤ 1 := by unfold gC; split <;> omega
  have hgS : gS (qN G) (capL (qN G)) ≤ 1000 := by
    unfold gS
    unfold gcap at hcl2
    split
    · omega
    · next h => rw [if_neg h] at hcl2; omega
  have con := c_Aadd1 l Θ M3 (bL A) q (capL (qN G)) (rwL (bR A) (qN G)) b1 ⟨2, k3, as_22⟩ (fun z hz => by
    unfold rwL at hz
    obtain ⟨i, hi, rfl⟩ := List.mem_map.mp hz
    have := List.mem_range.mp hi
    exact ⟨2, (hRw (i + 1) (by omega) (by omega)).1, as_22⟩) (by omega)
  rw [rwL_len] at con
  refine r_cVi hC [.ref q] rfl (con) mi_Aadd1 lk_B45 in_Aadd1 (ci := 6) rfl rfl (by exact b1.1) rfl (Nat.le_of_ble_eq_true rfl) ⟨Nat.le_of_ble_eq_true rfl, Nat.le_of_ble_eq_true rfl⟩ ⟨by show 0 + 1 + 0 + 0 + gC (qN G) (capL (qN G)) ≤ 300; omega, by show 0 + 7 + 0 + 0 + gS (qN G) (capL (qN G)) ≤ 8000; omega⟩ d_Badd_42 (fun r M4 h4 => ?_)
  obtain ⟨rfl, q2, g, hq2, hg, hM4⟩ := h4
  have g4 := stL_fr (cap := gcap (qN G) (capL (qN G))) (n := qN G + 1) (z := fI M3 194 (bL A) + 1) (g := g) hq2.own
  rw [← hM4] at g4
  have kL := b1.1
  have z4 : ∀ gg, gg ≠ 10 → For M3 gg (fun b => b = bL A ∨ kd M3 b = 1000 + bL A) := fun gg hgg => by
    refine ⟨fun b z hkb => ?_, fun b a z hkb hka => ?_, fun b z => ?_⟩
    · rcases z with z | z
      · rw [z, b2]; exact Ne.symm hgg
      · omega
    · rcases z with z | z
      · rw [z] at hkb; omega
      · have : a = bL A := by omega
        rw [this, b2]; exact Ne.symm hgg
    · rcases z with z | z
      · rw [z]; omega
      · omega
  have n4 : ∀ x, kd M3 x ≠ 7 → kd M3 x < 1000 → ¬ (x = bL A ∨ kd M3 x = 1000 + bL A) := fun x h1 h2 z => by
    rcases z with z | z
    · rw [z] at h1; exact h1 kL
    · omega
  have hgt : qN G < gcap (qN G) (capL (qN G)) := by
    have := capL_le (qN G)
    unfold gcap
    split
    · assumption
    · have := ncap_gt (capL (qN G)); omega
  have hBH4 : BH M4 X (bL A, bT A, bU A, va_up (bR A) (qN G + 1) q, bD A, bS A) (qN G + 1) (qO G) un := by
    have s1 := g4.2 X (by omega) (n4 X (by omega) (by omega))
    have s2 := g4.2 (bT A) (by omega) (n4 _ (by omega) (by omega))
    have s3 := g4.2 (bU A) (by omega) (n4 _ (by omega) (by omega))
    refine ⟨⟨s1.1.trans a1, s1.2.2.2.2.2.2.trans a2, (s1.2.2.1 0).trans a3, (s1.2.2.1 1).trans a4, (s1.2.2.1 2).trans a5, (s1.2.1 3).trans a6⟩, ⟨?_, (g4.1 (bL A) (by omega)).2.trans b2⟩, ⟨s2.1.trans c1, s2.2.2.2.2.2.2.trans c2, s2.2.2.2.1.trans c3, fun k hk => by rw [s2.2.2.2.2.2.1]; exact c4 k hk⟩, ⟨s3.1.trans e1, s3.2.2.2.2.2.2.trans e2, s3.2.2.2.1.trans e3, fun i hi => by rw [s3.2.2.2.2.1]; exact e4 i hi⟩⟩
    show Lst M4 (bL A) (rwL (va_up (bR A) (qN G + 1) q) (qN G + 1)) (gcap (qN G) (capL (qN G)))
    rw [rwL_snoc, hM4]
    exact stL_lst kL hq2.own (by rw [List.length_append, rwL_len]; rfl) (by omega) (by omega) (by omega) hg
  have hR' : ∀ i, i ≤ qN G → va_up (qR G) (qN G + 1) (ss, kk, vT (qD G kk) + 1, oo, pp, bb) i = qR G i := fun i hi => va_up_ne _ _ (by omega)
  have hB4 : BTu M4 X (bL A, bT A, bU A, va_up (bR A) (qN G + 1) q, bD A, bS A) (qN G + 1, va_up (qR G) (qN G + 1) (ss, kk, vT (qD G kk) + 1, oo, pp, bb), qO G, qD G) un := by
    refine ⟨hBH4, fun i hi1 hin => ?_, hGl, fun k2 hk2 => ?_⟩
    · show RwO M4 (va_up (bR A) (qN G + 1) q i) i (va_up (qR G) (qN G + 1) _ i)
      by_cases hi : i = qN G + 1
      · rw [hi, va_up_self, va_up_self]
        exact hrq.fr g4 (n4 _ (by omega) (by omega))
      · have hin : i ≤ qN G + 1 := hin
        rw [va_up_ne _ _ hi, va_up_ne _ _ hi]
        have h5 := hRw i hi1 (by omega)
        exact h5.fr g4 (n4 _ (by rw [h5.1]; omega) (by rw [h5.1]; omega))
    · have hni := (hG.2.2.1 k2 hk2).1
      refine NDS.rc (R := qR G) (ra := bR A) ((hNd k2 hk2).fr g4 (z4 _ (by rw [hGl k2 hk2]; omega))) (fun i hi => (hR' i (hni i hi).2).symm) (fun i hi => (va_up_ne _ _ (by have := (hni i hi).2; omega)).symm)
  have hNI : NI (va_up (qR G) (qN G + 1) (ss, kk, vT (qD G kk) + 1, oo, pp, bb)) (qN G + 1) (qD G kk) := (hG.2.2.1 kk hk).up hR'
  have hkf : vK (qD G kk) (qN G + 1) = false := by
    cases hv : vK (qD G kk) (qN G + 1) with
    | false => rfl
    | true => have := ((hG.2.2.1 kk hk).1 _ hv).2; omega
  obtain ⟨⟨-, -, ⟨-, -, c3', c4'⟩, -⟩, hRw4, -, hNd4⟩ := id hB4
  obtain ⟨⟨a1', -, -, a4', -⟩, -, ⟨c1', -⟩, -⟩ := hBH4
  have hX4 := (hNd4 kk hk).1
  have hr4 := hRw4 (qN G + 1) (by omega) (Nat.le_refl _)
  have eq4 : va_up (bR A) (qN G + 1) q (qN G + 1) = q := va_up_self _ _ _
  have hpt := pC_le (qD G kk)
  refine r_pop hC d_Badd_45 rfl ?_
  refine r_aload_n hC 0 d_Badd_46 rfl rfl ?_
  refine r_getS hC 0 1 1 fl_B18 (by exact a1') d_Badd_47 rfl rfl (by exact a4') ?_
  refine r_iload_n hC 1 d_Badd_50 rfl rfl ?_
  refine r_aaldS hC 5 kk (by rw [c1']; rfl) (by omega) rfl (by rw [c3']; exact hk) (by rw [c3']; omega) d_Badd_51 (c4' kk hk) ?_
  refine r_aload hC 6 d_Badd_52 rfl ?_
  have con2 := c_Tlearn l Θ M4 (bD A kk) _ (qN G + 1) hRI (va_up (bR A) (qN G + 1) q) (bS A kk) (qD G kk) hNI (hNd4 kk hk) (qN G + 1) (by omega) (Nat.le_refl _) hkf hr4 226 6496 (by omega) (by omega)
  rw [eq4] at con2
  refine r_cVv hC [.ref q] rfl (con2) mi_Tlearn lk_B49 in_Tlearn (ci := 4) rfl rfl (by exact hX4.1.1.1) rfl (Nat.le_of_ble_eq_true rfl) ⟨Nat.le_of_ble_eq_true rfl, Nat.le_of_ble_eq_true rfl⟩ ⟨by show 0 + 1 + 0 + 0 + gC (qN G) (capL (qN G)) + 226 ≤ 300; omega, by show 0 + 7 + 0 + 0 + gS (qN G) (capL (qN G)) + 6496 ≤ 8000; omega⟩ d_Badd_54 (fun M5 h5 => ?_)
  obtain ⟨q5, hN5, f5⟩ := h5
  have hB5 := hB4.learn hk hN5 f5
  have hr5 := hB5.1.2.1 (qN G + 1) (by omega) (Nat.le_refl _)
  have hr5 : RwO M5 (va_up (bR A) (qN G + 1) q (qN G + 1)) (qN G + 1) (va_up (qR G) (qN G + 1) (ss, kk, vT (qD G kk) + 1, oo, pp, bb) (qN G + 1)) := hr5
  rw [eq4] at hr5
  refine r_aload hC 6 d_Badd_57 rfl ?_
  refine r_cVi hC [] rfl (c_Rnumber l Θ M5 q hr5.1) mi_Rnumber lk_B53 in_Rnumber (ci := 2) rfl rfl (by exact hr5.1) rfl (Nat.le_of_ble_eq_true rfl) ⟨Nat.le_of_ble_eq_true rfl, Nat.le_of_ble_eq_true rfl⟩ ⟨by show 0 + 1 + 0 + 0 + gC (qN G) (capL (qN G)) + 226 + 0 ≤ 300; omega, by show 0 + 7 + 0 + 0 + gS (qN G) (capL (qN G)) + 6496 + 0 ≤ 8000; omega⟩ d_Badd_59 (fun r M6 h6 => ?_)
  obtain ⟨rfl, rfl⟩ := h6
  rw [hr5.2.1]
  have fa : Fr (BZ M) M M4 := (f3.mono (fun _ _ z => z.elim)).trans (g4.mono (For.bz (z4 11 (by omega)))) (BZ.old f3)
  exact r_iret hC d_Badd_62 (by show 0 + 1 + 0 + 0 + gC (qN G) (capL (qN G)) + 226 + 0 ≤ 300; omega) (by show 0 + 7 + 0 + 0 + gS (qN G) (capL (qN G)) + 6496 + 0 ≤ 8000; omega) ⟨_, rfl, rfl, ⟨_, hB5.1⟩, fa.trans hB5.2 (BZ.old fa)⟩
