theorem up2_id {α : Type} (f : Nat → Nat → α) {i k : Nat} {v : α} (h : f i k = v) : up2 f i k v = f := by
  funext g j
  by_cases hj : g = i ∧ j = k
  · obtain ⟨rfl, rfl⟩ := hj; rw [up2_self, h]
  · rw [up2_ne _ _ hj]
theorem okO.mono {M M' : Mem} {z : Nat} (h : okO M z) (hk : ∀ b, kd M b ≠ 0 → kd M b < 1000 → kd M' b = kd M b) : okO M' z := by
  obtain ⟨ci, h1, r, E, hc, h2⟩ := h
  have := cls_lt hc
  exact ⟨ci, by rw [hk z (by omega) (by omega), h1], r, E, hc, h2⟩
def gcap (n cap : Nat) : Nat := if n < cap then cap else ncap cap
def gC (n cap : Nat) : Nat := if n < cap then 0 else 1
def gS (n cap : Nat) : Nat := if n < cap then 0 else ncap cap
/-- the array that the list at a has after one more came -/
def GQ (M : Mem) (a q n cap : Nat) : Prop := (n < cap ∧ fR M 192 a = some q ∧ kd M q = 1000 + a ∧ ow M q = ow M a ∧ ln M q = cap) ∨ (n = cap ∧ kd M q = 0)
theorem ins_get {xs : List Nat} {k x i : Nat} (hk : k ≤ xs.length) : (xs.insertIdx k x)[i]? = if i < k then xs[i]? else if i = k then some x else xs[i - 1]? := by
  rw [List.getElem?_insertIdx]
  split
  · rfl
  · split
    · rw [if_pos (by omega)]
    · rfl
theorem c_Aadd2 (l : Launch) (Θ : Glob) (M : Mem) (a k x cap : Nat) (xs : List Nat) (hL : Lst M a xs cap) (hkx : k ≤ xs.length) (hx : okO M x) (hxs : ∀ z ∈ xs, okO M z) (hcap : cap < 40000) : Ct l Θ y_Aadd2 5 (gC xs.length cap) (gS xs.length cap) [.ref a, .int (nI k), .ref x] M (pV fun M1 => ∃ (q : Nat) (g : Nat → Option Nat), GQ M a q xs.length cap ∧ (∀ i, i < xs.length + 1 → g i = (xs.insertIdx k x)[i]?) ∧ M1 = stL M a q (gcap xs.length cap) (xs.length + 1) (fI M 194 a + 1) g) := by
  obtain ⟨hk, q, hq, hkq, hsz, hln, hle, -, hel⟩ := hL
  refine Ct.start (cc := b_Aadd2) (nL := 5) (ret := none) [some (.ref a), some (.int (nI k)), some (.ref x), none, none] mi_Aadd2.1 (by decide +kernel) (by intro v hv; simp at hv; rcases hv with rfl | rfl | rfl <;> rfl) (by simp) rfl (fun p e s m args below meth c hC => ?_)
  have tail : ∀ (Mx : Mem) (qx cx cl sl : Nat), kd Mx a = 7 → kd Mx qx = 1000 + a → ln Mx qx = cx → xs.length < cx → cx < 65536 → okO Mx x → (∀ z ∈ xs, okO Mx z) → (∀ i, i < xs.length → eR Mx qx i = xs[i]?) → cl ≤ gC xs.length cap → sl ≤ gS xs.length cap →
      (∀ g : Nat → Option Nat, (∀ i, i < xs.length + 1 → g i = (xs.insertIdx k x)[i]?) → (pV fun M1 => ∃ (q : Nat) (g : Nat → Option Nat), GQ M a q xs.length cap ∧ (∀ i, i < xs.length + 1 → g i = (xs.insertIdx k x)[i]?) ∧ M1 = stL M a q (gcap xs.length cap) (xs.length + 1) (fI M 194 a + 1) g) none (sI (kd Mx, fI Mx, fR Mx, ln Mx, eI Mx, va_up (eR Mx) qx g, ow Mx) 193 a (nI (xs.length + 1)))) →
      Gj p l e (rmo 5 (gC xs.length cap) (gS xs.length cap)) s m args below meth c Θ Mx [some (.ref a), some (.int (nI k)), some (.ref x), some (.int (nI xs.length)), some (.ref qx)] cl sl (Fn below args s Θ (gC xs.length cap) (gS xs.length cap) (pV fun M1 => ∃ (q : Nat) (g : Nat → Option Nat), GQ M a q xs.length cap ∧ (∀ i, i < xs.length + 1 → g i = (xs.insertIdx k x)[i]?) ∧ M1 = stL M a q (gcap xs.length cap) (xs.length + 1) (fI M 194 a + 1) g)) 38 [] := by
    intro Mx qx cx cl sl g1 g2 g3 g4 g5 g6 g7 g8 g9 g10 hp
    refine r_aload hC 4 d_Aadd2_38 rfl ?_
    refine r_iload_n hC 1 d_Aadd2_40 rfl rfl ?_
    refine r_aload hC 4 d_Aadd2_41 rfl ?_
    refine r_iload_n hC 1 d_Aadd2_43 rfl rfl ?_
    refine r_iconst hC 1 d_Aadd2_44 (by decide) ?_
    refine r_iadd hC _ d_Aadd2_45 (nI_1 k) ?_
    refine r_iload_n hC 3 d_Aadd2_46 rfl rfl ?_
    refine r_iload_n hC 1 d_Aadd2_47 rfl rfl ?_
    refine r_isub hC _ d_Aadd2_48 (pk_sub hkx) ?_
    refine r_acopy hC k (k + 1) (xs.length - k) rfl (by rw [g2]; exact akd_big (by omega)) (by rw [g2]; exact akd_big (by omega)) lk_A112 ay_1 ay_2 ay_3 rfl rfl rfl (by omega) (by omega) (by omega) (by omega) (fun i hi z hz => ?_) d_Aadd2_49 (Nat.le_of_ble_eq_true rfl) (Nat.le_of_ble_eq_true rfl) ?_
    · rw [g8 _ (by omega)] at hz
      exact g7 z (List.mem_of_getElem? hz)
    refine r_aload hC 4 d_Aadd2_52 rfl ?_
    refine r_iload_n hC 1 d_Aadd2_54 rfl rfl ?_
    refine r_aload_n hC 2 d_Aadd2_55 rfl rfl ?_
    obtain ⟨cx0, o1, o2⟩ := g6
    refine r_aast hC 2 cx0 k o2 o1 (by show akd (kd Mx qx) = _; rw [g2]; exact akd_big (by omega)) (by omega) rfl (by show k < ln Mx qx; omega) (by show ln Mx qx < _; omega) d_Aadd2_56 ?_
    refine r_aload_n hC 0 d_Aadd2_57 rfl rfl ?_
    refine r_iload_n hC 3 d_Aadd2_58 rfl rfl ?_
    refine r_iconst hC 1 d_Aadd2_59 (by decide) ?_
    refine r_iadd hC _ d_Aadd2_60 (nI_1 xs.length) ?_
    refine r_putI hC 6 1 193 fl_A48 rfl (by exact g1) d_Aadd2_61 rfl rfl rfl rfl ?_
    refine r_vret hC d_Aadd2_64 g9 g10 ?_
    have hp := hp (fun i => if i = k then some x else va_cpy (eR Mx qx) (eR Mx qx) k (k + 1) (xs.length - k) i) (fun i hi => ?_)
    · refine cast ?_ hp
      congr 1
      refine mem_ext rfl rfl rfl rfl rfl ?_ rfl
      funext b i
      show va_up (eR Mx) qx _ b i = up2 (va_up (eR Mx) qx (va_cpy (eR Mx qx) (eR Mx qx) k (k + 1) (xs.length - k))) qx k (some x) b i
      by_cases hb : b = qx
      · subst hb
        rw [va_up_self]
        by_cases hi : i = k
        · subst hi
          rw [up2_self, if_pos rfl]
        · rw [up2_ne _ _ (fun z => hi z.2), va_up_self, if_neg hi]
      · rw [up2_ne _ _ (fun z => hb z.1), va_up_ne _ _ hb, va_up_ne _ _ hb]
    · rw [ins_get hkx]
      by_cases hi1 : i < k
      · rw [if_neg (by omega), if_pos hi1, pk_cpy_out (by omega), g8 i (by omega)]
      · by_cases hi2 : i = k
        · rw [if_pos hi2, if_neg hi1, if_pos hi2]
        · rw [if_neg hi2, if_neg hi1, if_neg hi2, pk_cpy_in (by omega) (by omega), g8 _ (by omega)]
          congr 1
          omega
  refine r_aload_n hC 0 d_Aadd2_0 rfl rfl ?_
  refine r_iload_n hC 1 d_Aadd2_1 rfl rfl ?_
  refine r_cVv hC [.int (nI k)] rfl (c_ArangeCheckForAdd l Θ M a k xs.length hk hsz hkx (by omega)) mi_ArangeCheckForAdd lk_A135 in_ArangeCheckForAdd (ci := 6) rfl rfl (by exact hk) rfl (Nat.le_of_ble_eq_true rfl) ⟨Nat.le_of_ble_eq_true rfl, Nat.le_of_ble_eq_true rfl⟩ ⟨Nat.zero_le _, Nat.zero_le _⟩ d_Aadd2_2 (fun M1 h1 => ?_)
  subst h1
  refine r_aload_n hC 0 d_Aadd2_5 rfl rfl ?_
  refine r_dup hC d_Aadd2_6 rfl ?_
  refine r_getI hC 6 2 194 fl_A63 (by exact hk) d_Aadd2_7 rfl rfl rfl ?_
  refine r_iconst hC 1 d_Aadd2_10 (by decide) ?_
  refine r_iadd hC _ d_Aadd2_11 rfl ?_
  refine r_putI hC 6 2 194 fl_A63 rfl (by exact hk) d_Aadd2_12 rfl rfl rfl rfl ?_
  refine r_aload_n hC 0 d_Aadd2_15 rfl rfl ?_
  refine r_getI hC 6 1 193 fl_A48 (by exact hk) d_Aadd2_16 rfl rfl (by exact hsz) ?_
  refine r_dup hC d_Aadd2_19 rfl ?_
  refine r_is3 hC d_Aadd2_20 ?_
  refine r_aload_n hC 0 d_Aadd2_21 rfl rfl ?_
  refine r_getS hC 6 0 192 fl_A9 (by exact hk) d_Aadd2_22 rfl rfl (by exact hq) ?_
  refine r_dup hC d_Aadd2_25 rfl ?_
  refine r_as4 hC d_Aadd2_26 ?_
  refine r_alen hC (alen_of hkq) d_Aadd2_28 hln ?_
  refine r_icmp_ne hC 38 d_Aadd2_29 (by decide) (fun g => ?_) (fun g => ?_)
  · have hlt : xs.length < cap := by
      rcases Nat.lt_or_ge xs.length cap with z | z
      · exact z
      · exact absurd (by rw [Nat.le_antisymm hle z]) g
    obtain ⟨hkq1, -, how⟩ : kd M1 q = 1000 + a ∧ 0 < cap ∧ ow M1 q = ow M1 a := by
      rcases hkq with h | h
      · exact h
      · omega
    refine tail _ q cap _ _ hk hkq1 hln hlt (by omega) hx hxs hel (Nat.zero_le _) (Nat.zero_le _) (fun g hg => ⟨rfl, q, g, Or.inl ⟨hlt, hq, hkq1, how, hln⟩, hg, ?_⟩)
    refine mem_ext ?_ rfl ?_ ?_ rfl rfl ?_
    · exact (va_up_id _ hkq1).symm
    · exact (up2_id _ hq).symm
    · show ln M1 = va_up (ln M1) q (gcap xs.length cap)
      rw [va_up_id]
      rw [hln, gcap, if_pos hlt]
    · exact (va_up_id _ how).symm
  · have hnc : xs.length = cap := by
      exact (nI_eq (by omega) (by omega)).mp g
    have hC1 : gC xs.length cap = 1 := if_neg (by omega)
    have hS1 : gS xs.length cap = ncap cap := if_neg (by omega)
    have hg1 : gcap xs.length cap = ncap cap := if_neg (by omega)
    refine r_aload_n hC 0 d_Aadd2_32 rfl rfl ?_
    refine r_cVr hC [] rfl (c_Agrow0 l Θ (sI M1 194 a (fI M1 194 a + 1)) a q cap hk hq (hkq.imp (fun h => ⟨h.1, h.2.1⟩) id) (by show up2 (fI M1) 194 a (fI M1 194 a + 1) 193 a = _; rw [up2_ne _ _ (by omega), hsz, hnc]) hln hcap (fun i hi z hz => hxs z (List.mem_of_getElem? ((hel i (by omega)).symm.trans hz)))) mi_Agrow0 lk_A129 in_Agrow0 (ci := 6) rfl rfl (by exact hk) rfl (Nat.le_of_ble_eq_true rfl) ⟨Nat.le_of_ble_eq_true rfl, Nat.le_of_ble_eq_true rfl⟩ ⟨by rw [hC1]; show 0 + 0 + 1 ≤ 1; omega, by rw [hS1]; show 0 + 0 + ncap cap ≤ ncap cap; omega⟩ d_Aadd2_33 (fun r M2 h2 => ?_)
    obtain ⟨q2, g0, rfl, hq2, hg0, rfl⟩ := h2
    have hq2' : kd M1 q2 = 0 := hq2
    have hne : ∀ b, kd M1 b ≠ 0 → b ≠ q2 := fun b hb z => hb (by rw [z]; exact hq2')
    refine r_as4 (x := q2) hC d_Aadd2_36 ?_
    refine tail _ q2 (ncap cap) _ _ ?_ (va_up_self _ _ _) (va_up_self _ _ _) (by have := ncap_gt cap; omega) (ncap_le hcap) (hx.mono fun b h0 _ => va_up_ne _ _ (hne b h0)) (fun z hz => (hxs z hz).mono fun b h0 _ => va_up_ne _ _ (hne b h0)) (fun i hi => ?_) (by rw [hC1]; omega) (by rw [hS1]; omega) (fun g hg => ⟨rfl, q2, g, Or.inr ⟨hnc, hq2'⟩, hg, ?_⟩)
    · show va_up (kd M1) q2 _ a = 7
      rw [va_up_ne _ _ (hne a (by omega)), hk]
    · show va_up (eR M1) q2 g0 q2 i = _
      rw [va_up_self, hg0 i (by omega)]
      exact hel i hi
    · refine mem_ext rfl rfl rfl (by rw [hg1]; rfl) rfl ?_ rfl
      show va_up (va_up (eR M1) q2 g0) q2 g = va_up (eR M1) q2 g
      rw [bx_uu]
theorem app_get {xs : List Nat} {x i : Nat} (hi : i < xs.length + 1) : (xs ++ [x])[i]? = if i = xs.length then some x else xs[i]? := by
  by_cases h : i = xs.length
  · subst h; simp
  · rw [if_neg h, List.getElem?_append_left (by omega)]
theorem c_Aadd3 (l : Launch) (Θ : Glob) (M : Mem) (a q x cap : Nat) (xs : List Nat) (hk : kd M a = 7) (hq : fR M 192 a = some q) (hkq : (kd M q = 1000 + a ∧ 0 < cap ∧ ow M q = ow M a) ∨ (kd M q = 30 ∧ cap = 0)) (hsz : fI M 193 a = nI xs.length) (hln : ln M q = cap) (hle : xs.length ≤ cap) (hel : ∀ i : Nat, i < xs.length → eR M q i = xs[i]?) (hx : okO M x) (hxs : ∀ z ∈ xs, okO M z) (hcap : cap < 40000) : Ct l Θ y_Aadd3 5 (gC xs.length cap) (gS xs.length cap) [.ref a, .ref x, .ref q, .int (nI xs.length)] M (pV fun M1 => ∃ (q : Nat) (g : Nat → Option Nat), GQ M a q xs.length cap ∧ (∀ i, i < xs.length + 1 → g i = (xs ++ [x])[i]?) ∧ M1 = stL M a q (gcap xs.length cap) (xs.length + 1) (fI M 194 a) g) := by
  refine Ct.start (cc := b_Aadd3) (nL := 4) (ret := none) [some (.ref a), some (.ref x), some (.ref q), some (.int (nI xs.length))] mi_Aadd3.1 (by decide +kernel) (by intro v hv; simp at hv; rcases hv with rfl | rfl | rfl | rfl <;> rfl) (by simp) rfl (fun p e s m args below meth c hC => ?_)
  have tail : ∀ (Mx : Mem) (qx cx cl sl : Nat), kd Mx a = 7 → kd Mx qx = 1000 + a → ln Mx qx = cx → xs.length < cx → cx < 65536 → okO Mx x → (∀ i, i < xs.length → eR Mx qx i = xs[i]?) → cl ≤ gC xs.length cap → sl ≤ gS xs.length cap →
      (∀ g : Nat → Option Nat, (∀ i, i < xs.length + 1 → g i = (xs ++ [x])[i]?) → (pV fun M1 => ∃ (q : Nat) (g : Nat → Option Nat), GQ M a q xs.length cap ∧ (∀ i, i < xs.length + 1 → g i = (xs ++ [x])[i]?) ∧ M1 = stL M a q (gcap xs.length cap) (xs.length + 1) (fI M 194 a) g) none (sI (kd Mx, fI Mx, fR Mx, ln Mx, eI Mx, va_up (eR Mx) qx g, ow Mx) 193 a (nI (xs.length + 1)))) →
      Gj p l e (rmo 5 (gC xs.length cap) (gS xs.length cap)) s m args below meth c Θ Mx [some (.ref a), some (.ref x), some (.ref qx), some (.int (nI xs.length))] cl sl (Fn below args s Θ (gC xs.length cap) (gS xs.length cap) (pV fun M1 => ∃ (q : Nat) (g : Nat → Option Nat), GQ M a q xs.length cap ∧ (∀ i, i < xs.length + 1 → g i = (xs ++ [x])[i]?) ∧ M1 = stL M a q (gcap xs.length cap) (xs.length + 1) (fI M 194 a) g)) 11 [] := by
    intro Mx qx cx cl sl g1 g2 g3 g4 g5 g6 g8 g9 g10 hp
    refine r_aload_n hC 2 d_Aadd3_11 rfl rfl ?_
    refine r_iload_n hC 3 d_Aadd3_12 rfl rfl ?_
    refine r_aload_n hC 1 d_Aadd3_13 rfl rfl ?_
    obtain ⟨cx0, o1, o2⟩ := g6
    refine r_aast hC 2 cx0 xs.length o2 o1 (by rw [g2]; exact akd_big (by omega)) (by omega) rfl (by omega) (by omega) d_Aadd3_14 ?_
    refine r_aload_n hC 0 d_Aadd3_15 rfl rfl ?_
    refine r_iload_n hC 3 d_Aadd3_16 rfl rfl ?_
    refine r_iconst hC 1 d_Aadd3_17 (by decide) ?_
    refine r_iadd hC _ d_Aadd3_18 (nI_1 xs.length) ?_
    refine r_putI hC 6 1 193 fl_A48 rfl (by exact g1) d_Aadd3_19 rfl rfl rfl rfl ?_
    refine r_vret hC d_Aadd3_22 g9 g10 ?_
    have hp := hp (fun i => if i = xs.length then some x else eR Mx qx i) (fun i hi => ?_)
    · refine cast ?_ hp
      congr 1
      refine mem_ext rfl rfl rfl rfl rfl ?_ rfl
      funext b i
      show va_up (eR Mx) qx _ b i = up2 (eR Mx) qx xs.length (some x) b i
      by_cases hb : b = qx
      · subst hb
        rw [va_up_self]
        by_cases hi : i = xs.length
        · subst hi
          rw [up2_self, if_pos rfl]
        · rw [up2_ne _ _ (fun z => hi z.2), if_neg hi]
      · rw [up2_ne _ _ (fun z => hb z.1), va_up_ne _ _ hb]
    · rw [app_get hi]
      by_cases hi2 : i = xs.length
      · rw [if_pos hi2, if_pos hi2]
      · rw [if_neg hi2, if_neg hi2, g8 i (by omega)]
  refine r_iload_n hC 3 d_Aadd3_0 rfl rfl ?_
  refine r_aload_n hC 2 d_Aadd3_1 rfl rfl ?_
  refine r_alen hC (alen_of hkq) d_Aadd3_2 hln ?_
  refine r_icmp_ne hC 11 d_Aadd3_3 (by decide) (fun g => ?_) (fun g => ?_)
  · have hlt : xs.length < cap := by
      rcases Nat.lt_or_ge xs.length cap with z | z
      · exact z
      · exact absurd (by rw [Nat.le_antisymm hle z]) g
    obtain ⟨hkq1, -, how⟩ : kd M q = 1000 + a ∧ 0 < cap ∧ ow M q = ow M a := by
      rcases hkq with h | h
      · exact h
      · omega
    refine tail _ q cap _ _ hk hkq1 hln hlt (by omega) hx hel (Nat.zero_le _) (Nat.zero_le _) (fun g hg => ⟨rfl, q, g, Or.inl ⟨hlt, hq, hkq1, how, hln⟩, hg, ?_⟩)
    refine mem_ext ?_ ?_ ?_ ?_ rfl rfl ?_
    · exact (va_up_id _ hkq1).symm
    · show up2 (fI M) 193 a _ = up2 (up2 (fI M) 194 a _) 193 a _
      rw [up2_id (fI M) (i := 194) rfl]
    · exact (up2_id _ hq).symm
    · show ln M = va_up (ln M) q (gcap xs.length cap)
      rw [va_up_id]
      rw [hln, gcap, if_pos hlt]
    · exact (va_up_id _ how).symm
  · have hnc : xs.length = cap := (nI_eq (by omega) (by omega)).mp g
    have hC1 : gC xs.length cap = 1 := if_neg (by omega)
    have hS1 : gS xs.length cap = ncap cap := if_neg (by omega)
    have hg1 : gcap xs.length cap = ncap cap := if_neg (by omega)
    refine r_aload_n hC 0 d_Aadd3_6 rfl rfl ?_
    refine r_cVr hC [] rfl (c_Agrow0 l Θ M a q cap hk hq (hkq.imp (fun h => ⟨h.1, h.2.1⟩) id) (by rw [hsz, hnc]) hln hcap (fun i hi z hz => hxs z (List.mem_of_getElem? ((hel i (by omega)).symm.trans hz)))) mi_Agrow0 lk_A129 in_Agrow0 (ci := 6) rfl rfl (by exact hk) rfl (Nat.le_of_ble_eq_true rfl) ⟨Nat.le_of_ble_eq_true rfl, Nat.le_of_ble_eq_true rfl⟩ ⟨by rw [hC1]; show 0 + 1 ≤ 1; omega, by rw [hS1]; show 0 + ncap cap ≤ ncap cap; omega⟩ d_Aadd3_7 (fun r M2 h2 => ?_)
    obtain ⟨q2, g0, rfl, hq2, hg0, rfl⟩ := h2
    have hne : ∀ b, kd M b ≠ 0 → b ≠ q2 := fun b hb z => hb (by rw [z]; exact hq2)
    refine r_as2 (x := q2) hC d_Aadd3_10 ?_
    refine tail _ q2 (ncap cap) _ _ ?_ (va_up_self _ _ _) (va_up_self _ _ _) (by have := ncap_gt cap; omega) (ncap_le hcap) (hx.mono fun b h0 _ => va_up_ne _ _ (hne b h0)) (fun i hi => ?_) (by rw [hC1]; omega) (by rw [hS1]; omega) (fun g hg => ⟨rfl, q2, g, Or.inr ⟨hnc, hq2⟩, hg, ?_⟩)
    · show va_up (kd M) q2 _ a = 7
      rw [va_up_ne _ _ (hne a (by omega)), hk]
    · show va_up (eR M) q2 g0 q2 i = _
      rw [va_up_self, hg0 i (by omega)]
      exact hel i hi
    · refine mem_ext rfl ?_ rfl (by rw [hg1]; rfl) rfl ?_ rfl
      · show up2 (fI M) 193 a _ = up2 (up2 (fI M) 194 a _) 193 a _
        rw [up2_id (fI M) (i := 194) rfl]
      · show va_up (va_up (eR M) q2 g0) q2 g = va_up (eR M) q2 g
        rw [bx_uu]
theorem c_Aadd1 (l : Launch) (Θ : Glob) (M : Mem) (a x cap : Nat) (xs : List Nat) (hL : Lst M a xs cap) (hx : okO M x) (hxs : ∀ z ∈ xs, okO M z) (hcap : cap < 40000) : Ct l Θ y_Aadd1 6 (gC xs.length cap) (gS xs.length cap) [.ref a, .ref x] M (pI fun r M1 => r = 1 ∧ ∃ (q : Nat) (g : Nat → Option Nat), GQ M a q xs.length cap ∧ (∀ i, i < xs.length + 1 → g i = (xs ++ [x])[i]?) ∧ M1 = stL M a q (gcap xs.length cap) (xs.length + 1) (fI M 194 a + 1) g) := by
  obtain ⟨hk, q, hq, hkq, hsz, hln, hle, -, hel⟩ := hL
  refine Ct.start (cc := b_Aadd1) (nL := 2) (ret := (some .boolean)) [some (.ref a), some (.ref x)] mi_Aadd1.1 (by decide +kernel) (by intro v hv; simp at hv; rcases hv with rfl | rfl <;> rfl) (by simp) rfl (fun p e s m args below meth c hC => ?_)
  refine r_aload_n hC 0 d_Aadd1_0 rfl rfl ?_
  refine r_dup hC d_Aadd1_1 rfl ?_
  refine r_getI hC 6 2 194 fl_A63 (by exact hk) d_Aadd1_2 rfl rfl rfl ?_
  refine r_iconst hC 1 d_Aadd1_5 (by decide) ?_
  refine r_iadd hC _ d_Aadd1_6 rfl ?_
  refine r_putI hC 6 2 194 fl_A63 rfl (by exact hk) d_Aadd1_7 rfl rfl rfl rfl ?_
  refine r_aload_n hC 0 d_Aadd1_10 rfl rfl ?_
  refine r_aload_n hC 1 d_Aadd1_11 rfl rfl ?_
  refine r_aload_n hC 0 d_Aadd1_12 rfl rfl ?_
  refine r_getS hC 6 0 192 fl_A9 (by exact hk) d_Aadd1_13 rfl rfl (by exact hq) ?_
  refine r_aload_n hC 0 d_Aadd1_16 rfl rfl ?_
  refine r_getI hC 6 1 193 fl_A48 (by exact hk) d_Aadd1_17 rfl rfl (by exact hsz) ?_
  refine r_cVv hC [.ref x, .ref q, .int (nI xs.length)] rfl (c_Aadd3 l Θ (sI M 194 a (fI M 194 a + 1)) a q x cap xs hk hq hkq (by show up2 (fI M) 194 a (fI M 194 a + 1) 193 a = _; rw [up2_ne _ _ (by omega), hsz]) hln hle hel hx hxs hcap) mi_Aadd3 lk_A131 in_Aadd3 (ci := 6) rfl rfl (by exact hk) rfl (Nat.le_of_ble_eq_true rfl) ⟨Nat.le_of_ble_eq_true rfl, Nat.le_of_ble_eq_true rfl⟩ ⟨by show 0 + _ ≤ gC _ _; omega, by show 0 + _ ≤ gS _ _; omega⟩ d_Aadd1_20 (fun M2 h2 => ?_)
  obtain ⟨q2, g, hq2, hg, rfl⟩ := h2
  refine r_iconst hC 1 d_Aadd1_23 (by decide) ?_
  refine r_zret hC d_Aadd1_24 (Or.inr rfl) (by omega) (by omega) ⟨1, rfl, rfl, q2, g, hq2, hg, ?_⟩
  refine mem_ext rfl ?_ rfl rfl rfl rfl rfl
  show up2 (up2 (up2 (fI M) 194 a _) 194 a (up2 (fI M) 194 a (fI M 194 a + 1) 194 a)) 193 a _ = up2 (up2 (fI M) 194 a _) 193 a _
  rw [up2_id (up2 (fI M) 194 a (fI M 194 a + 1)) (i := 194) rfl]
theorem er_get {xs : List Nat} {k i : Nat} : (xs.eraseIdx k)[i]? = if i < k then xs[i]? else xs[i + 1]? := List.getElem?_eraseIdx
theorem c_AfastRemove (l : Launch) (Θ : Glob) (M : Mem) (a q k cap : Nat) (xs : List Nat) (hk : kd M a = 7) (hq : fR M 192 a = some q) (hkq : kd M q = 1000 + a) (how : ow M q = ow M a) (hsz : fI M 193 a = nI xs.length) (hln : ln M q = cap) (hle : xs.length ≤ cap) (hcap : cap < 65536) (hel : ∀ i : Nat, i < xs.length → eR M q i = xs[i]?) (hkx : k < xs.length) (hxs : ∀ z ∈ xs, okO M z) : Ct l Θ y_AfastRemove 1 0 0 [.ref a, .ref q, .int (nI k)] M (pV fun M1 => ∃ g : Nat → Option Nat, (∀ i, i < xs.length - 1 → g i = (xs.eraseIdx k)[i]?) ∧ M1 = stL M a q cap (xs.length - 1) (fI M 194 a + 1) g) := by
  refine Ct.start (cc := b_AfastRemove) (nL := 4) (ret := none) [some (.ref a), some (.ref q), some (.int (nI k)), none] mi_AfastRemove.1 (by decide +kernel) (by intro v hv; simp at hv; rcases hv with rfl | rfl | rfl <;> rfl) (by simp) rfl (fun p e s m args below meth c hC => ?_)
  have tail : ∀ g0 : Nat → Option Nat, (∀ i, i < xs.length - 1 → g0 i = (xs.eraseIdx k)[i]?) → Gj p l e (rmo 1 0 0) s m args below meth c Θ (sAR (sI M 194 a (fI M 194 a + 1)) q g0) [some (.ref a), some (.ref q), some (.int (nI k)), some (.int (nI (xs.length - 1)))] 0 0 (Fn below args s Θ 0 0 (pV fun M1 => ∃ g : Nat → Option Nat, (∀ i, i < xs.length - 1 → g i = (xs.eraseIdx k)[i]?) ∧ M1 = stL M a q cap (xs.length - 1) (fI M 194 a + 1) g)) 34 [] := by
    intro g0 hg0
    refine r_aload_n hC 1 d_AfastRemove_34 rfl rfl ?_
    refine r_aload_n hC 0 d_AfastRemove_35 rfl rfl ?_
    refine r_iload_n hC 3 d_AfastRemove_36 rfl rfl ?_
    refine r_dup_x1 hC d_AfastRemove_37 rfl rfl ?_
    refine r_putI hC 6 1 193 fl_A48 rfl (by exact hk) d_AfastRemove_38 rfl rfl rfl rfl ?_
    refine r_null hC d_AfastRemove_41 ?_
    refine r_aastN hC 2 (xs.length - 1) (by show akd (kd M q) = _; rw [hkq]; exact akd_big (by omega)) (by omega) rfl (by show _ < ln M q; omega) (by show ln M q < _; omega) d_AfastRemove_42 ?_
    refine r_vret hC d_AfastRemove_43 (Nat.le_refl _) (Nat.le_refl _) ⟨rfl, fun i => if i = xs.length - 1 then none else g0 i, fun i hi => ?_, ?_⟩
    · show (if i = xs.length - 1 then none else g0 i) = _
      rw [if_neg (by omega), hg0 i hi]
    · refine mem_ext ?_ rfl ?_ ?_ rfl ?_ ?_
      · exact (va_up_id _ hkq).symm
      · exact (up2_id _ hq).symm
      · exact (va_up_id _ hln).symm
      · funext b i
        show up2 (va_up (eR M) q g0) q (xs.length - 1) none b i = va_up (eR M) q _ b i
        by_cases hb : b = q
        · subst hb
          rw [va_up_self]
          by_cases hi : i = xs.length - 1
          · subst hi
            rw [up2_self, if_pos rfl]
          · rw [up2_ne _ _ (fun z => hi z.2), va_up_self, if_neg hi]
        · rw [up2_ne _ _ (fun z => hb z.1), va_up_ne _ _ hb, va_up_ne _ _ hb]
      · exact (va_up_id _ how).symm
  refine r_aload_n hC 0 d_AfastRemove_0 rfl rfl ?_
  refine r_dup hC d_AfastRemove_1 rfl ?_
  refine r_getI hC 6 2 194 fl_A63 (by exact hk) d_AfastRemove_2 rfl rfl rfl ?_
  refine r_iconst hC 1 d_AfastRemove_5 (by decide) ?_
  refine r_iadd hC _ d_AfastRemove_6 rfl ?_
  refine r_putI hC 6 2 194 fl_A63 rfl (by exact hk) d_AfastRemove_7 rfl rfl rfl rfl ?_
  refine r_aload_n hC 0 d_AfastRemove_10 rfl rfl ?_
  refine r_getI hC 6 1 193 fl_A48 (by exact hk) d_AfastRemove_11 rfl rfl (by exact hsz) ?_
  refine r_iconst hC 1 d_AfastRemove_14 (by decide) ?_
  refine r_isub hC (nI (xs.length - 1)) d_AfastRemove_15 (by rw [show (1 : Int32) = nI 1 from rfl, pk_sub (by omega)]) ?_
  refine r_dup hC d_AfastRemove_16 rfl ?_
  refine r_is3 hC d_AfastRemove_17 ?_
  refine r_iload_n hC 2 d_AfastRemove_18 rfl rfl ?_
  refine r_icmp_le hC 34 d_AfastRemove_19 (by decide) (fun g => ?_) (fun g => ?_)
  · have hk1 : k = xs.length - 1 := by
      rcases Nat.lt_or_ge k (xs.length - 1) with z | z
      · exact absurd g (nI_ge z (by omega))
      · omega
    have h2 := tail (eR M q) (fun i hi => by rw [er_get, if_pos (by omega), hel i (by omega)])
    refine cast ?_ h2
    congr 1
    refine mem_ext rfl rfl rfl rfl rfl ?_ rfl
    exact va_up_id _ rfl
  · have hk1 : k < xs.length - 1 := by
      rcases Nat.lt_or_ge k (xs.length - 1) with z | z
      · exact z
      · exact absurd (nI_le z (by omega)) g
    refine r_aload_n hC 1 d_AfastRemove_22 rfl rfl ?_
    refine r_iload_n hC 2 d_AfastRemove_23 rfl rfl ?_
    refine r_iconst hC 1 d_AfastRemove_24 (by decide) ?_
    refine r_iadd hC _ d_AfastRemove_25 (nI_1 k) ?_
    refine r_aload_n hC 1 d_AfastRemove_26 rfl rfl ?_
    refine r_iload_n hC 2 d_AfastRemove_27 rfl rfl ?_
    refine r_iload_n hC 3 d_AfastRemove_28 rfl rfl ?_
    refine r_iload_n hC 2 d_AfastRemove_29 rfl rfl ?_
    refine r_isub hC _ d_AfastRemove_30 (pk_sub (by omega)) ?_
    refine r_acopy hC (k + 1) k (xs.length - 1 - k) rfl (by show akd (kd M q) = _; rw [hkq]; exact akd_big (by omega)) (by show akd (kd M q) = _; rw [hkq]; exact akd_big (by omega)) lk_A112 ay_1 ay_2 ay_3 rfl rfl rfl (by show _ ≤ ln M q; omega) (by show _ ≤ ln M q; omega) (by show ln M q < _; omega) (by show ln M q < _; omega) (fun i hi z hz => ?_) d_AfastRemove_31 (Nat.le_of_ble_eq_true rfl) (Nat.le_of_ble_eq_true rfl) ?_
    · have hz : eR M q (k + 1 + i) = some z := hz
      rw [hel _ (by omega)] at hz
      exact hxs z (List.mem_of_getElem? hz)
    refine tail _ (fun i hi => ?_)
    show va_cpy (eR M q) (eR M q) (k + 1) k (xs.length - 1 - k) i = _
    rw [er_get]
    by_cases hik : i < k
    · rw [if_pos hik, pk_cpy_out (by omega), hel i (by omega)]
    · rw [if_neg hik, pk_cpy_in (by omega) (by omega), hel _ (by omega)]
      congr 1
      omega
theorem c_Aremove (l : Launch) (Θ : Glob) (M : Mem) (a k cap : Nat) (xs : List Nat) (hL : Lst M a xs cap) (hkx : k < xs.length) (hxs : ∀ z ∈ xs, okO M z) : Ct l Θ y_Aremove 3 0 0 [.ref a, .int (nI k)] M (pR fun _ M1 => ∃ (q : Nat) (g : Nat → Option Nat), (fR M 192 a = some q ∧ kd M q = 1000 + a ∧ ow M q = ow M a ∧ ln M q = cap) ∧ (∀ i, i < xs.length - 1 → g i = (xs.eraseIdx k)[i]?) ∧ M1 = stL M a q cap (xs.length - 1) (fI M 194 a + 1) g) := by
  obtain ⟨hk, q, hq, hkq, hsz, hln, hle, hcap, hel⟩ := hL
  obtain ⟨hkq1, -, how⟩ : kd M q = 1000 + a ∧ 0 < cap ∧ ow M q = ow M a := by
    rcases hkq with h | h
    · exact h
    · omega
  refine Ct.start (cc := b_Aremove) (nL := 4) (ret := (some (.object "java/lang/Object"))) [some (.ref a), some (.int (nI k)), none, none] mi_Aremove.1 (by decide +kernel) (by intro v hv; simp at hv; rcases hv with rfl | rfl <;> rfl) (by simp) rfl (fun p e s m args below meth c hC => ?_)
  refine r_iload_n hC 1 d_Aremove_0 rfl rfl ?_
  refine r_aload_n hC 0 d_Aremove_1 rfl rfl ?_
  refine r_getI hC 6 1 193 fl_A48 (by exact hk) d_Aremove_2 rfl rfl (by exact hsz) ?_
  refine r_cSi hC [.int (nI k), .int (nI xs.length)] rfl (c_OcheckIndex l Θ M k xs.length hkx (by omega)) mi_OcheckIndex lk_A118 in_OcheckIndex rfl (Nat.le_of_ble_eq_true rfl) ⟨Nat.le_of_ble_eq_true rfl, Nat.le_of_ble_eq_true rfl⟩ ⟨Nat.le_of_ble_eq_true rfl, Nat.le_of_ble_eq_true rfl⟩ d_Aremove_5 (fun r M1 h1 => ?_)
  obtain ⟨rfl, rfl⟩ := h1
  refine r_pop hC d_Aremove_8 rfl ?_
  refine r_aload_n hC 0 d_Aremove_9 rfl rfl ?_
  refine r_getS hC 6 0 192 fl_A9 (by exact hk) d_Aremove_10 rfl rfl (by exact hq) ?_
  refine r_as2 hC d_Aremove_13 ?_
  refine r_aload_n hC 2 d_Aremove_14 rfl rfl ?_
  refine r_iload_n hC 1 d_Aremove_15 rfl rfl ?_
  refine r_aald hC 2 k (by rw [hkq1]; exact akd_big (by omega)) (by omega) rfl (by omega) (by omega) d_Aremove_16 rfl ?_
  refine r_aq3 hC d_Aremove_17 ?_
  refine r_aload_n hC 0 d_Aremove_18 rfl rfl ?_
  refine r_aload_n hC 2 d_Aremove_19 rfl rfl ?_
  refine r_iload_n hC 1 d_Aremove_20 rfl rfl ?_
  refine r_cVv hC [.ref q, .int (nI k)] rfl (c_AfastRemove l Θ M1 a q k cap xs hk hq hkq1 how hsz hln hle hcap hel hkx hxs) mi_AfastRemove lk_A144 in_AfastRemove (ci := 6) rfl rfl (by exact hk) rfl (Nat.le_of_ble_eq_true rfl) ⟨Nat.le_of_ble_eq_true rfl, Nat.le_of_ble_eq_true rfl⟩ ⟨Nat.le_of_ble_eq_true rfl, Nat.le_of_ble_eq_true rfl⟩ d_Aremove_21 (fun M2 h2 => ?_)
  obtain ⟨g, hg, rfl⟩ := h2
  refine r_aload_nQ hC 3 d_Aremove_24 rfl rfl ?_
  exact r_aret hC rfl d_Aremove_25 (Nat.le_refl _) (Nat.le_refl _) ⟨_, rfl, q, g, ⟨hq, hkq1, how, hln⟩, hg, rfl⟩
theorem c_Zinit (l : Launch) (Θ : Glob) (M : Mem) (a : Nat) : Ct l Θ y_Zinit 1 0 0 [.ref a] M (pV fun M1 => M1 = M) := by
  refine Ct.start (cc := b_Zinit) (nL := 1) (ret := none) [some (.ref a)] mi_Zinit.1 (by decide +kernel) (by intro v hv; simp at hv; rcases hv with rfl <;> rfl) (by simp) rfl (fun p e s m args below meth c hC => ?_)
  refine r_aload_n hC 0 d_Zinit_0 rfl rfl ?_
  refine r_objInit hC rfl lk_Z1 ob_in ob_co d_Zinit_1 (Nat.le_of_ble_eq_true rfl) (Nat.le_of_ble_eq_true rfl) ?_
  exact r_vret hC d_Zinit_4 (Nat.le_refl _) (Nat.le_refl _) ⟨rfl, rfl⟩
theorem c_Yinit (l : Launch) (Θ : Glob) (M : Mem) (a : Nat) (hk : kd M a = 7) : Ct l Θ y_Yinit 2 0 0 [.ref a] M (pV fun M1 => M1 = sI M 194 a 0) := by
  refine Ct.start (cc := b_Yinit) (nL := 1) (ret := none) [some (.ref a)] mi_Yinit.1 (by decide +kernel) (by intro v hv; simp at hv; rcases hv with rfl <;> rfl) (by simp) rfl (fun p e s m args below meth c hC => ?_)
  refine r_aload_n hC 0 d_Yinit_0 rfl rfl ?_
  refine r_cIv hC [] rfl (c_Zinit l Θ M a) mi_Zinit lk_Y1 in_Zinit rfl (Nat.le_of_ble_eq_true rfl) ⟨Nat.le_of_ble_eq_true rfl, Nat.le_of_ble_eq_true rfl⟩ ⟨Nat.le_of_ble_eq_true rfl, Nat.le_of_ble_eq_true rfl⟩ d_Yinit_1 (fun M1 h1 => ?_)
  subst h1
  refine r_aload_n hC 0 d_Yinit_4 rfl rfl ?_
  refine r_iconst hC 0 d_Yinit_5 (by decide) ?_
  refine r_putI hC 6 2 194 fl_Y7 rfl (by exact hk) d_Yinit_6 rfl rfl rfl rfl ?_
  exact r_vret hC d_Yinit_9 (Nat.le_refl _) (Nat.le_refl _) ⟨rfl, rfl⟩
theorem c_Ainit (l : Launch) (Θ : Glob) (M : Mem) (a : Nat) (hk : kd M a = 7) : Ct l Θ y_Ainit 3 0 0 [.ref a] M (pV fun M1 => M1 = sR (sI M 194 a 0) 192 a (some Θ.E)) := by
  refine Ct.start (cc := b_Ainit) (nL := 1) (ret := none) [some (.ref a)] mi_Ainit.1 (by decide +kernel) (by intro v hv; simp at hv; rcases hv with rfl <;> rfl) (by simp) rfl (fun p e s m args below meth c hC => ?_)
  refine r_aload_n hC 0 d_Ainit_0 rfl rfl ?_
  refine r_cIv hC [] rfl (c_Yinit l Θ M a hk) mi_Yinit lk_A1 in_Yinit rfl (Nat.le_of_ble_eq_true rfl) ⟨Nat.le_of_ble_eq_true rfl, Nat.le_of_ble_eq_true rfl⟩ ⟨Nat.le_of_ble_eq_true rfl, Nat.le_of_ble_eq_true rfl⟩ d_Ainit_1 (fun M1 h1 => ?_)
  subst h1
  refine r_aload_n hC 0 d_Ainit_4 rfl rfl ?_
  refine r_gets hC gs_A39 d_Ainit_5 ?_
  refine r_putR hC 6 0 192 fl_A9 rfl (by exact hk) d_Ainit_8 (v := (some Θ.E)) rfl rfl ?_
  exact r_vret hC d_Ainit_11 (Nat.le_refl _) (Nat.le_refl _) ⟨rfl, rfl⟩
