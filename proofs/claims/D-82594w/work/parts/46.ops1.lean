/-! operations: answer and state -/
noncomputable def aMake (G : GS) (x : Int32) : Int32 × GS := match ix 4 x with
  | none => (-1, G)
  | some k => if qO G = 40 ∨ qN G = 300 then (-1, G) else (nI (qO G), gAddO G k 0 (qO G) none none (qO G + 1))
def bix (ob : Nat) (x : Int32) : Option (Option Nat) := if x = -1 then some none else (ix ob x).map some
noncomputable def aMove (G : GS) (x y z v : Int32) : Int32 × GS := match ix 4 x, rx (qO G - 1) y, ix (qO G) z, bix (qO G) v with
  | some k, some o, some p, some b => if qN G = 300 then (-1, G) else (nI (qN G + 1), gAddO G k 1 o (some p) b (qO G))
  | _, _, _, _ => (-1, G)
noncomputable def aRemo (G : GS) (x y z : Int32) : Int32 × GS := match ix 4 x, rx (qO G - 1) y with
  | some k, some o => if qN G = 300 then (-1, G) else (nI (qN G + 1), gAddO G k (if z = 0 then 2 else 3) o none none (qO G))
  | _, _ => (-1, G)
noncomputable def aUndo (G : GS) (x y : Int32) : Int32 × GS := match ix 4 x, rx (qN G) y with
  | some k, some i => if qN G ≠ 300 ∧ rW (qR G i) = k ∧ 1 ≤ rS (qR G i) ∧ rS (qR G i) ≤ 3 ∧ unF G i = false then (nI (qN G + 1), gAddO G k 4 i none none (qO G)) else (-1, G)
  | _, _ => (-1, G)
noncomputable def aSee (G : GS) (x y : Int32) : Int32 × GS := match ix 4 x, rx (qN G) y with
  | some k, some i => if vK (qD G k) i = true then (-1, G) else (nI (vO (lrn (qR G) (qD G k) i)), gLrn G k i)
  | _, _ => (-1, G)
theorem BTu.setO {M : Mem} {X : Nat} {A : BA} {G : GS} {un : Nat → Bool} (h : BTu M X A G un) (ob : Nat) : BTu (sI M 3 X (nI ob)) X A (qN G, qR G, ob, qD G) un ∧ Fr (BZ M) M (sI M 3 X (nI ob)) := by
  obtain ⟨⟨⟨a1, a2, a3, a4, a5, a6⟩, ⟨b1, b2⟩, ⟨c1, c2, c3, c4⟩, ⟨e1, e2, e3, e4⟩⟩, hRw, hGl, hNd⟩ := h
  have hf := sI_fr M 3 X (nI ob)
  have hk := b1.1
  have hfor : ∀ g, g ≠ 10 → For M g (fun b => b = X) := fun g hg => ⟨fun b z _ => by have z : b = X := z; rw [z, a2]; exact Ne.symm hg, fun b a z h1 _ => by have z : b = X := z; rw [z] at h1; omega, fun b z => by have z : b = X := z; rw [z]; omega⟩
  refine ⟨⟨⟨⟨a1, a2, a3, a4, a5, up2_self _ _ _ _⟩, ⟨b1.fr (sI_sm (one_ne hk a1 (by omega))) (fun q hq => sI_sm (one_ne hq a1 (by omega))) (fun q hq => sI_sm (one_ne hq a1 (by omega))), b2⟩, ⟨c1, c2, c3, c4⟩, ⟨e1, e2, e3, e4⟩⟩, fun i hi1 hin => (hRw i hi1 hin).fr hf (one_ne (hRw i hi1 hin).1 a1 (by omega)), hGl, fun k hk => (hNd k hk).fr hf (hfor _ (by rw [hGl k hk]; omega))⟩, hf.mono (For.bz (hfor 11 (by omega)))⟩
theorem BTu.setU {M : Mem} {X : Nat} {A : BA} {G : GS} {un : Nat → Bool} (h : BTu M X A G un) {i : Nat} (hi : i < 301) : BTu (sEI M (bU A) i 1) X A G (va_up un i true) ∧ Fr (BZ M) M (sEI M (bU A) i 1) := by
  obtain ⟨⟨⟨a1, a2, a3, a4, a5, a6⟩, ⟨b1, b2⟩, ⟨c1, c2, c3, c4⟩, ⟨e1, e2, e3, e4⟩⟩, hRw, hGl, hNd⟩ := h
  have hf := sEI_fr M (bU A) i 1
  have hk := b1.1
  have hfor : ∀ g, g ≠ 10 → For M g (fun b => b = bU A) := fun g hg => ⟨fun b z _ => by have z : b = bU A := z; rw [z, e2]; exact Ne.symm hg, fun b a z h1 _ => by have z : b = bU A := z; rw [z] at h1; omega, fun b z => by have z : b = bU A := z; rw [z]; omega⟩
  refine ⟨⟨⟨⟨a1, a2, a3, a4, a5, a6⟩, ⟨b1.fr (hf.2 _ (by omega) (one_ne hk e1 (by omega))) (fun q hq => hf.2 q (by omega) (one_ne hq e1 (by omega))) (fun q hq => hf.2 q (by omega) (one_ne hq e1 (by omega))), b2⟩, ⟨c1, c2, c3, c4⟩, ⟨e1, e2, e3, fun j hj => ?_⟩⟩, fun i hi1 hin => (hRw i hi1 hin).fr hf (one_ne (hRw i hi1 hin).1 e1 (by omega)), hGl, fun k hk => (hNd k hk).fr hf (hfor _ (by rw [hGl k hk]; omega))⟩, hf.mono (For.bz (hfor 11 (by omega)))⟩
  show up2 (eI M) (bU A) i 1 (bU A) j = _
  by_cases e : j = i
  · rw [e, up2_self, va_up_self]; rfl
  · rw [up2_ne _ _ (fun z => e z.2), va_up_ne _ _ e]; exact e4 j hj
theorem unF_same (G : GS) (k s o : Nat) (p b : Option Nat) (ob : Nat) (hs : s ≠ 4) : unF (gAddO G k s o p b ob) = unF G := by
  funext i
  rw [unF_add, if_neg (fun z => hs z.1)]
theorem unF_4 (G : GS) (k o : Nat) (p b : Option Nat) (ob : Nat) : unF (gAddO G k 4 o p b ob) = va_up (unF G) o true := by
  funext i
  rw [unF_add]
  by_cases e : i = o
  · rw [e, va_up_self, if_pos ⟨rfl, rfl⟩]
  · rw [va_up_ne _ _ e, if_neg (fun z => e z.2.symm)]
theorem c_BmayAdd (l : Launch) (Θ : Glob) (M : Mem) (X : Nat) (A : BA) (G : GS) (hG : GI G) (hB : BT M X A G) (x y : Int32) : Ct l Θ y_BmayAdd 3 0 0 [.ref X, .int x, .int y] M (pI fun r M1 => r = b2i ((ix 4 x).isSome && (rx (qO G - 1) y).isSome && decide (qN G < 300)) ∧ M1 = M) := by
  have hB0 := hB
  obtain ⟨⟨⟨a1, a2, a3, a4, a5, a6⟩, ⟨b1, b2⟩, ⟨c1, c2, c3, c4⟩, ⟨e1, e2, e3, e4⟩⟩, hRw, hGl, hNd⟩ := hB
  have hn300 := hG.1.1
  have hob := hG.2.1
  have hsz := b1.len
  rw [rwL_len] at hsz
  refine Ct.start (cc := b_BmayAdd) (nL := 3) (ret := (some .boolean)) [some (.ref X), some (.int x), some (.int y)] mi_BmayAdd.1 (by decide +kernel) (by intro v hv; simp at hv; rcases hv with rfl | rfl | rfl <;> rfl) (by simp) rfl (fun p e s m args below meth c hC => ?_)
  have no : ((ix 4 x).isSome && (rx (qO G - 1) y).isSome && decide (qN G < 300)) = false → Gj p l e (rmo 3 0 0) s m args below meth c Θ M [some (.ref X), some (.int x), some (.int y)] 0 0 (Fn below args s Θ 0 0 (pI fun r M1 => r = b2i ((ix 4 x).isSome && (rx (qO G - 1) y).isSome && decide (qN G < 300)) ∧ M1 = M)) 37 [] := by
    intro hz
    rw [hz]
    refine r_iconst hC 0 d_BmayAdd_37 (by decide) ?_
    exact r_zret hC d_BmayAdd_38 (Or.inl rfl) (Nat.le_refl _) (Nat.le_refl _) ⟨_, rfl, rfl, rfl⟩
  refine r_iload_n hC 1 d_BmayAdd_0 rfl rfl ?_
  refine r_iconst hC 4 d_BmayAdd_1 (by decide) ?_
  refine r_cSi hC [.int x, .int (nI 4)] rfl (c_BisIn l Θ M x 4 (by omega)) mi_BisIn lk_B56 in_BisIn rfl (Nat.le_of_ble_eq_true rfl) ⟨Nat.le_of_ble_eq_true rfl, Nat.le_of_ble_eq_true rfl⟩ ⟨Nat.le_of_ble_eq_true rfl, Nat.le_of_ble_eq_true rfl⟩ d_BmayAdd_2 (fun r M1 h1 => ?_)
  obtain ⟨rfl, rfl⟩ := h1
  refine r_if_eq hC 37 d_BmayAdd_5 (by decide) (fun z => no (by rw [b2i_eq z]; rfl)) (fun z => ?_)
  have hx := b2i_ne z
  refine r_iload_n hC 2 d_BmayAdd_8 rfl rfl ?_
  rcases rx_cases (qO G - 1) y (by omega) with ⟨i, hi1, hin, rfl, er⟩ | ⟨hy, er⟩
  · refine r_if_le hC 37 d_BmayAdd_9 (by decide) (fun z => absurd z (nI_nle (by omega) (by omega))) (fun _ => ?_)
    refine r_iload_n hC 2 d_BmayAdd_12 rfl rfl ?_
    refine r_aload_n hC 0 d_BmayAdd_13 rfl rfl ?_
    refine r_getI hC 0 3 3 fl_B26 (by exact a1) d_BmayAdd_14 rfl rfl (by exact a6) ?_
    refine r_icmp_ge hC 37 d_BmayAdd_17 (by decide) (fun z => absurd z (nI_ge (by omega) (by omega))) (fun _ => ?_)
    refine r_aload_n hC 0 d_BmayAdd_20 rfl rfl ?_
    refine r_getS hC 0 0 0 fl_B10 (by exact a1) d_BmayAdd_21 rfl rfl (by exact a3) ?_
    refine r_cVi hC [] rfl (c_Asize l Θ M1 (bL A) b1.1) mi_Asize lk_B33 in_Asize (ci := 6) rfl rfl (by exact b1.1) rfl (Nat.le_of_ble_eq_true rfl) ⟨Nat.le_of_ble_eq_true rfl, Nat.le_of_ble_eq_true rfl⟩ ⟨Nat.le_of_ble_eq_true rfl, Nat.le_of_ble_eq_true rfl⟩ d_BmayAdd_24 (fun r M2 h2 => ?_)
    obtain ⟨rfl, rfl⟩ := h2
    rw [hsz]
    refine r_sipush hC 300 d_BmayAdd_27 (by decide) ?_
    refine r_icmp_ge hC 37 d_BmayAdd_30 (by decide) (fun z => no ?_) (fun z => ?_)
    · rw [decide_eq_false (fun w => absurd z (nI_ge (b := 300) w (by omega))), Bool.and_false]
    · have hlt : qN G < 300 := by
        rcases Nat.lt_or_ge (qN G) 300 with w | w
        · exact w
        · exact absurd (nI_le (a := 300) w (by omega)) z
      rw [hx, er, decide_eq_true hlt]
      refine r_iconst hC 1 d_BmayAdd_33 (by decide) ?_
      refine r_goto hC 38 d_BmayAdd_34 (by decide) ?_
      exact r_zret hC d_BmayAdd_38 (Or.inr rfl) (Nat.le_refl _) (Nat.le_refl _) ⟨_, rfl, rfl, rfl⟩
  · have hno : ((ix 4 x).isSome && (rx (qO G - 1) y).isSome && decide (qN G < 300)) = false := by rw [er, Option.isSome_none, Bool.and_false, Bool.false_and]
    refine r_if_le hC 37 d_BmayAdd_9 (by decide) (fun z => no hno) (fun z => ?_)
    refine r_iload_n hC 2 d_BmayAdd_12 rfl rfl ?_
    refine r_aload_n hC 0 d_BmayAdd_13 rfl rfl ?_
    refine r_getI hC 0 3 3 fl_B26 (by exact a1) d_BmayAdd_14 rfl rfl (by exact a6) ?_
    refine r_icmp_ge hC 37 d_BmayAdd_17 (by decide) (fun z => no hno) (fun z2 => ?_)
    rcases hy with q | q
    · exact absurd q z
    · refine absurd ?_ z2
      rw [Int32.lt_iff_toInt_lt, nI_toInt (by omega)] at q
      rw [Int32.le_iff_toInt_le, nI_toInt (by omega)]
      omega
theorem c_Bmake (l : Launch) (Θ : Glob) (M : Mem) (X : Nat) (A : BA) (G : GS) (hG : GI G) (hB : BT M X A G) (x : Int32) : Ct l Θ y_Bmake 19 300 8000 [.ref X, .int x] M (pI fun r M1 => r = (aMake G x).1 ∧ (∃ A', BT M1 X A' (aMake G x).2) ∧ Fr (BZ M) M M1) := by
  have hB0 := hB
  obtain ⟨⟨⟨a1, a2, a3, a4, a5, a6⟩, ⟨b1, b2⟩, ⟨c1, c2, c3, c4⟩, ⟨e1, e2, e3, e4⟩⟩, hRw, hGl, hNd⟩ := hB
  have hn300 := hG.1.1
  have hob := hG.2.1
  have hsz := b1.len
  rw [rwL_len] at hsz
  refine Ct.start (cc := b_Bmake) (nL := 2) (ret := (some .int)) [some (.ref X), some (.int x)] mi_Bmake.1 (by decide +kernel) (by intro v hv; simp at hv; rcases hv with rfl | rfl <;> rfl) (by simp) rfl (fun p e s m args below meth c hC => ?_)
  have no : aMake G x = (-1, G) → Gj p l e (rmo 19 300 8000) s m args below meth c Θ M [some (.ref X), some (.int x)] 0 0 (Fn below args s Θ 300 8000 (pI fun r M1 => r = (aMake G x).1 ∧ (∃ A', BT M1 X A' (aMake G x).2) ∧ Fr (BZ M) M M1)) 30 [] := by
    intro hz
    rw [hz]
    refine r_iconst hC (-1) d_Bmake_30 (by decide) ?_
    exact r_iret hC d_Bmake_31 (Nat.zero_le _) (Nat.zero_le _) ⟨_, rfl, rfl, ⟨A, hB0⟩, Fr.rf⟩
  refine r_iload_n hC 1 d_Bmake_0 rfl rfl ?_
  refine r_iconst hC 4 d_Bmake_1 (by decide) ?_
  refine r_cSi hC [.int x, .int (nI 4)] rfl (c_BisIn l Θ M x 4 (by omega)) mi_BisIn lk_B56 in_BisIn rfl (Nat.le_of_ble_eq_true rfl) ⟨Nat.le_of_ble_eq_true rfl, Nat.le_of_ble_eq_true rfl⟩ ⟨Nat.le_of_ble_eq_true rfl, Nat.le_of_ble_eq_true rfl⟩ d_Bmake_2 (fun r M1 h1 => ?_)
  obtain ⟨rfl, rfl⟩ := h1
  rcases ix_cases 4 x (by omega) with ⟨k, hk, rfl, ex⟩ | ⟨-, ex⟩
  · rw [ex]
    have ea : aMake G (nI k) = if qO G = 40 ∨ qN G = 300 then (-1, G) else (nI (qO G), gAddO G k 0 (qO G) none none (qO G + 1)) := by unfold aMake; rw [ex]
    refine r_if_eq hC 30 d_Bmake_5 (by decide) (fun z => absurd z i10) (fun _ => ?_)
    refine r_aload_n hC 0 d_Bmake_8 rfl rfl ?_
    refine r_getI hC 0 3 3 fl_B26 (by exact a1) d_Bmake_9 rfl rfl (by exact a6) ?_
    refine r_bipush hC 40 d_Bmake_12 (by decide) ?_
    refine r_icmp_eq hC 30 d_Bmake_14 (by decide) (fun z => no (by rw [ea, if_pos (Or.inl ((nI_eq (b := 40) (by omega) (by omega)).mp z))])) (fun z => ?_)
    have ho40 : qO G ≠ 40 := fun q => z (by rw [q]; rfl)
    refine r_aload_n hC 0 d_Bmake_17 rfl rfl ?_
    refine r_getS hC 0 0 0 fl_B10 (by exact a1) d_Bmake_18 rfl rfl (by exact a3) ?_
    refine r_cVi hC [] rfl (c_Asize l Θ M1 (bL A) b1.1) mi_Asize lk_B33 in_Asize (ci := 6) rfl rfl (by exact b1.1) rfl (Nat.le_of_ble_eq_true rfl) ⟨Nat.le_of_ble_eq_true rfl, Nat.le_of_ble_eq_true rfl⟩ ⟨Nat.le_of_ble_eq_true rfl, Nat.le_of_ble_eq_true rfl⟩ d_Bmake_21 (fun r M2 h2 => ?_)
    obtain ⟨rfl, rfl⟩ := h2
    rw [hsz]
    refine r_sipush hC 300 d_Bmake_24 (by decide) ?_
    refine r_icmp_ne hC 32 d_Bmake_27 (by decide) (fun z2 => ?_) (fun z2 => no (by rw [ea, if_pos (Or.inr ((nI_eq (b := 300) (by omega) (by omega)).mp z2))]))
    have hn3 : qN G ≠ 300 := fun q => z2 (by rw [q]; rfl)
    rw [ea, if_neg (fun q => q.elim ho40 hn3)]
    have hnew : rNew G k 0 (qO G) none none (qO G + 1) := ⟨by omega, fun _ => ⟨by omega, by omega, (fun q => by omega), (fun q e => by cases e), (fun q e => by cases e)⟩, (fun q => by omega), Or.inl ⟨rfl, rfl, rfl, by omega⟩⟩
    refine r_aload_n hC 0 d_Bmake_32 rfl rfl ?_
    refine r_iload_n hC 1 d_Bmake_33 rfl rfl ?_
    refine r_iconst hC 0 d_Bmake_34 (by decide) ?_
    refine r_aload_n hC 0 d_Bmake_35 rfl rfl ?_
    refine r_getI hC 0 3 3 fl_B26 (by exact a1) d_Bmake_36 rfl rfl (by exact a6) ?_
    refine r_iconst hC (-1) d_Bmake_39 (by decide) ?_
    refine r_iconst hC (-1) d_Bmake_40 (by decide) ?_
    refine r_cVi hC [.int (nI k), .int (nI 0), .int (nI (qO G)), .int (oO none), .int (oO none)] rfl (c_Badd l Θ M2 X A G _ hG hB0 k 0 (qO G) none none hk (by omega) (hG.addR hk (by omega) hnew)) mi_Badd lk_B60 in_Badd (ci := 0) rfl rfl (by exact a1) rfl (Nat.le_of_ble_eq_true rfl) ⟨Nat.le_of_ble_eq_true rfl, Nat.le_of_ble_eq_true rfl⟩ ⟨Nat.le_of_ble_eq_true rfl, Nat.le_of_ble_eq_true rfl⟩ d_Bmake_41 (fun r M3 h3 => ?_)
    obtain ⟨rfl, ⟨A', hB3⟩, f3⟩ := h3
    have a6' := hB3.1.1.2.2.2.2.2
    have a6' : fI M3 3 X = nI (qO G) := a6'
    have k3 := hB3.1.1.1
    refine r_pop hC d_Bmake_44 rfl ?_
    refine r_aload_n hC 0 d_Bmake_45 rfl rfl ?_
    refine r_dup hC d_Bmake_46 rfl ?_
    refine r_getI hC 0 3 3 fl_B26 (by exact k3) d_Bmake_47 rfl rfl (by exact a6') ?_
    refine r_iconst hC 1 d_Bmake_50 (by decide) ?_
    refine r_iadd hC (nI (qO G + 1)) d_Bmake_51 (nI_1 _) ?_
    refine r_putI hC 0 3 3 fl_B26 rfl (by exact k3) d_Bmake_52 rfl rfl rfl rfl ?_
    have hB4 := hB3.setO (qO G + 1)
    have b6 : fI (sI M3 3 X (nI (qO G + 1))) 3 X = nI (qO G + 1) := up2_self _ _ _ _
    have f4 := f3.trans hB4.2 (BZ.old f3)
    have hu := unF_same G k 0 (qO G) none none (qO G + 1) (by omega)
    have hBT : BT (sI M3 3 X (nI (qO G + 1))) X A' (gAddO G k 0 (qO G) none none (qO G + 1)) := by
      have h5 := hB4.1
      rw [← hu] at h5
      exact h5
    refine r_aload_n hC 0 d_Bmake_55 rfl rfl ?_
    refine r_getI hC 0 3 3 fl_B26 (by exact k3) d_Bmake_56 rfl rfl (by exact b6) ?_
    refine r_iconst hC 1 d_Bmake_59 (by decide) ?_
    refine r_isub hC (nI (qO G)) d_Bmake_60 (nI_pred _) ?_
    exact r_iret hC d_Bmake_61 (Nat.le_of_ble_eq_true rfl) (Nat.le_of_ble_eq_true rfl) ⟨_, rfl, rfl, ⟨_, hBT⟩, f4⟩
  · rw [ex]
    refine r_if_eq hC 30 d_Bmake_5 (by decide) (fun _ => no (by unfold aMake; rw [ex])) (fun z => absurd rfl z)
theorem bix_cases (ob : Nat) (x : Int32) (hob : ob < 2 ^ 31) : (x = -1 ∧ bix ob x = some none) ∨ (∃ j, j < ob ∧ x ≠ -1 ∧ x = nI j ∧ bix ob x = some (some j)) ∨ (x ≠ -1 ∧ ix ob x = none ∧ bix ob x = none) := by
  by_cases h : x = -1
  · exact Or.inl ⟨h, if_pos h⟩
  · rcases ix_cases ob x hob with ⟨j, hj, rfl, e⟩ | ⟨-, e⟩
    · exact Or.inr (Or.inl ⟨j, hj, h, rfl, by unfold bix; rw [if_neg h, e]; rfl⟩)
    · exact Or.inr (Or.inr ⟨h, e, by unfold bix; rw [if_neg h, e]; rfl⟩)
theorem c_Bmove (l : Launch) (Θ : Glob) (M : Mem) (X : Nat) (A : BA) (G : GS) (hG : GI G) (hB : BT M X A G) (x y z v : Int32) : Ct l Θ y_Bmove 19 300 8000 [.ref X, .int x, .int y, .int z, .int v] M (pI fun r M1 => r = (aMove G x y z v).1 ∧ (∃ A', BT M1 X A' (aMove G x y z v).2) ∧ Fr (BZ M) M M1) := by
  have hB0 := hB
  obtain ⟨⟨⟨a1, a2, a3, a4, a5, a6⟩, ⟨b1, b2⟩, ⟨c1, c2, c3, c4⟩, ⟨e1, e2, e3, e4⟩⟩, hRw, hGl, hNd⟩ := hB
  have hn300 := hG.1.1
  have hob := hG.2.1
  have hsz := b1.len
  rw [rwL_len] at hsz
  refine Ct.start (cc := b_Bmove) (nL := 5) (ret := (some .int)) [some (.ref X), some (.int x), some (.int y), some (.int z), some (.int v)] mi_Bmove.1 (by decide +kernel) (by intro v hv; simp at hv; rcases hv with rfl | rfl | rfl | rfl | rfl <;> rfl) (by simp) rfl (fun p e s m args below meth c hC => ?_)
  have no : aMove G x y z v = (-1, G) → Gj p l e (rmo 19 300 8000) s m args below meth c Θ M [some (.ref X), some (.int x), some (.int y), some (.int z), some (.int v)] 0 0 (Fn below args s Θ 300 8000 (pI fun r M1 => r = (aMove G x y z v).1 ∧ (∃ A', BT M1 X A' (aMove G x y z v).2) ∧ Fr (BZ M) M M1)) 38 [] := by
    intro hz
    rw [hz]
    refine r_iconst hC (-1) d_Bmove_38 (by decide) ?_
    exact r_iret hC d_Bmove_39 (Nat.zero_le _) (Nat.zero_le _) ⟨_, rfl, rfl, ⟨A, hB0⟩, Fr.rf⟩
  refine r_aload_n hC 0 d_Bmove_0 rfl rfl ?_
  refine r_iload_n hC 1 d_Bmove_1 rfl rfl ?_
  refine r_iload_n hC 2 d_Bmove_2 rfl rfl ?_
  refine r_cVi hC [.int x, .int y] rfl (c_BmayAdd l Θ M X A G hG hB0 x y) mi_BmayAdd lk_B63 in_BmayAdd (ci := 0) rfl rfl (by exact a1) rfl (Nat.le_of_ble_eq_true rfl) ⟨Nat.le_of_ble_eq_true rfl, Nat.le_of_ble_eq_true rfl⟩ ⟨Nat.le_of_ble_eq_true rfl, Nat.le_of_ble_eq_true rfl⟩ d_Bmove_3 (fun r M1 h1 => ?_)
  obtain ⟨rfl, rfl⟩ := h1
  have no1 : ((ix 4 x).isSome && (rx (qO G - 1) y).isSome && decide (qN G < 300)) = false → aMove G x y z v = (-1, G) := by
    intro hf
    unfold aMove
    rcases ix_cases 4 x (by omega) with ⟨k, hk, rfl, ex⟩ | ⟨-, ex⟩
    · rcases rx_cases (qO G - 1) y (by omega) with ⟨i, hi1, hin, rfl, er⟩ | ⟨-, er⟩
      · rw [ex, er] at hf ⊢
        have hf2 : qN G = 300 := by
          have := of_decide_eq_false (p := qN G < 300) hf
          omega
        split
        · rw [if_pos hf2]
        · rfl
      · rw [ex, er]
    · rw [ex]
  refine r_if_eq hC 38 d_Bmove_6 (by decide) (fun q => no (no1 (b2i_eq q))) (fun q => ?_)
  have hall := b2i_ne q
  rw [Bool.and_eq_true, Bool.and_eq_true] at hall
  rcases ix_cases 4 x (by omega) with ⟨k, hk, rfl, ex⟩ | ⟨-, ex⟩
  · rcases rx_cases (qO G - 1) y (by omega) with ⟨i, hi1, hin, rfl, er⟩ | ⟨-, er⟩
    · have hn3 : qN G < 300 := of_decide_eq_true hall.2
      refine r_iload_n hC 3 d_Bmove_9 rfl rfl ?_
      refine r_aload_n hC 0 d_Bmove_10 rfl rfl ?_
      refine r_getI hC 0 3 3 fl_B26 (by exact a1) d_Bmove_11 rfl rfl (by exact a6) ?_
      refine r_cSi hC [.int z, .int (nI (qO G))] rfl (c_BisIn l Θ M1 z (qO G) (by omega)) mi_BisIn lk_B56 in_BisIn rfl (Nat.le_of_ble_eq_true rfl) ⟨Nat.le_of_ble_eq_true rfl, Nat.le_of_ble_eq_true rfl⟩ ⟨Nat.le_of_ble_eq_true rfl, Nat.le_of_ble_eq_true rfl⟩ d_Bmove_14 (fun r M2 h2 => ?_)
      obtain ⟨rfl, rfl⟩ := h2
      rcases ix_cases (qO G) z (by omega) with ⟨t, ht, rfl, et⟩ | ⟨-, et⟩
      · rw [et]
        refine r_if_eq hC 38 d_Bmove_17 (by decide) (fun z => absurd z i10) (fun _ => ?_)
        have fin : ∀ b : Option Nat, v = oO b → bix (qO G) v = some b → (∀ q, b = some q → q < qO G) → Gj p l e (rmo 19 300 8000) s m args below meth c Θ M2 [some (.ref X), some (.int (nI k)), some (.int (nI i)), some (.int (nI t)), some (.int v)] 0 0 (Fn below args s Θ 300 8000 (pI fun r M1 => r = (aMove G (nI k) (nI i) (nI t) v).1 ∧ (∃ A', BT M1 X A' (aMove G (nI k) (nI i) (nI t) v).2) ∧ Fr (BZ M2) M2 M1)) 40 [] := by
          intro b hv hb hbb
          have ea : aMove G (nI k) (nI i) (nI t) v = (nI (qN G + 1), gAddO G k 1 i (some t) b (qO G)) := by
            unfold aMove
            rw [ex, er, et, hb]
            exact if_neg (by omega)
          rw [ea]
          subst hv
          have hnew : rNew G k 1 i (some t) b (qO G) := ⟨by omega, fun _ => ⟨by omega, by omega, fun _ => ⟨t, rfl⟩, (fun q e => by cases e; exact ht), hbb⟩, (fun q => by omega), Or.inr ⟨by omega, rfl⟩⟩
          refine r_aload_n hC 0 d_Bmove_40 rfl rfl ?_
          refine r_iload_n hC 1 d_Bmove_41 rfl rfl ?_
          refine r_iconst hC 1 d_Bmove_42 (by decide) ?_
          refine r_iload_n hC 2 d_Bmove_43 rfl rfl ?_
          refine r_iload_n hC 3 d_Bmove_44 rfl rfl ?_
          refine r_iload hC 4 d_Bmove_45 rfl ?_
          refine r_cVi hC [.int (nI k), .int (nI 1), .int (nI i), .int (nI t), .int (oO b)] rfl (c_Badd l Θ M2 X A G _ hG hB0 k 1 i (some t) b hk (by omega) (hG.addR hk (by omega) hnew)) mi_Badd lk_B60 in_Badd (ci := 0) rfl rfl (by exact a1) rfl (Nat.le_of_ble_eq_true rfl) ⟨Nat.le_of_ble_eq_true rfl, Nat.le_of_ble_eq_true rfl⟩ ⟨Nat.le_of_ble_eq_true rfl, Nat.le_of_ble_eq_true rfl⟩ d_Bmove_47 (fun r M3 h3 => ?_)
          obtain ⟨rfl, ⟨A', hB3⟩, f3⟩ := h3
          have hu := unF_same G k 1 i (some t) b (qO G) (by omega)
          have hBT : BT M3 X A' (gAddO G k 1 i (some t) b (qO G)) := by
            have h5 := hB3
            rw [← hu] at h5
            exact h5
          exact r_iret hC d_Bmove_50 (Nat.le_of_ble_eq_true rfl) (Nat.le_of_ble_eq_true rfl) ⟨_, rfl, rfl, ⟨_, hBT⟩, f3⟩
        refine r_iload hC 4 d_Bmove_20 rfl ?_
        refine r_iconst hC (-1) d_Bmove_22 (by decide) ?_
        rcases bix_cases (qO G) v (by omega) with ⟨rfl, hb⟩ | ⟨j, hj, hne, rfl, hb⟩ | ⟨hne, hi, hb⟩
        · refine r_icmp_eq hC 40 d_Bmove_23 (by decide) (fun _ => fin none rfl hb (fun q e => by cases e)) (fun z => absurd rfl z)
        · refine r_icmp_eq hC 40 d_Bmove_23 (by decide) (fun z => absurd z hne) (fun _ => ?_)
          refine r_iload hC 4 d_Bmove_26 rfl ?_
          refine r_aload_n hC 0 d_Bmove_28 rfl rfl ?_
          refine r_getI hC 0 3 3 fl_B26 (by exact a1) d_Bmove_29 rfl rfl (by exact a6) ?_
          refine r_cSi hC [.int (nI j), .int (nI (qO G))] rfl (c_BisIn l Θ M2 (nI j) (qO G) (by omega)) mi_BisIn lk_B56 in_BisIn rfl (Nat.le_of_ble_eq_true rfl) ⟨Nat.le_of_ble_eq_true rfl, Nat.le_of_ble_eq_true rfl⟩ ⟨Nat.le_of_ble_eq_true rfl, Nat.le_of_ble_eq_true rfl⟩ d_Bmove_32 (fun r M3 h3 => ?_)
          obtain ⟨rfl, rfl⟩ := h3
          rw [ix_some hj (by omega)]
          refine r_if_ne hC 40 d_Bmove_35 (by decide) (fun _ => fin (some j) rfl hb (fun q e => by cases e; exact hj)) (fun z => absurd z i10)
        · refine r_icmp_eq hC 40 d_Bmove_23 (by decide) (fun z => absurd z hne) (fun _ => ?_)
          refine r_iload hC 4 d_Bmove_26 rfl ?_
          refine r_aload_n hC 0 d_Bmove_28 rfl rfl ?_
          refine r_getI hC 0 3 3 fl_B26 (by exact a1) d_Bmove_29 rfl rfl (by exact a6) ?_
          refine r_cSi hC [.int v, .int (nI (qO G))] rfl (c_BisIn l Θ M2 v (qO G) (by omega)) mi_BisIn lk_B56 in_BisIn rfl (Nat.le_of_ble_eq_true rfl) ⟨Nat.le_of_ble_eq_true rfl, Nat.le_of_ble_eq_true rfl⟩ ⟨Nat.le_of_ble_eq_true rfl, Nat.le_of_ble_eq_true rfl⟩ d_Bmove_32 (fun r M3 h3 => ?_)
          obtain ⟨rfl, rfl⟩ := h3
          rw [hi]
          refine r_if_ne hC 40 d_Bmove_35 (by decide) (fun z => absurd rfl z) (fun _ => no ?_)
          unfold aMove
          rw [ex, er, et, hb]
      · rw [et]
        refine r_if_eq hC 38 d_Bmove_17 (by decide) (fun _ => no ?_) (fun z => absurd rfl z)
        unfold aMove
        rw [ex, er, et]
    · rw [er] at hall
      exact absurd hall.1.2 (by decide)
  · rw [ex] at hall
    exact absurd hall.1.1 (by decide)
