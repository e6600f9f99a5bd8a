theorem fil_snoc (L : List Nat) (o k c : Nat) (h : L[k]? = some c) : (L.take (k + 1)).filter (fun x => x != o) = (L.take k).filter (fun x => x != o) ++ (if c = o then [] else [c]) := by
  have hk : k < L.length := (List.getElem?_eq_some_iff.mp h).1
  have e : L.take (k + 1) = L.take k ++ [c] := by
    rw [List.take_succ, h]; rfl
  rw [e, List.filter_append]
  congr 1
  by_cases q : c = o
  · rw [if_pos q]; simp [q]
  · rw [if_neg q]; simp [q]
theorem fil_len (L : List Nat) (o k : Nat) : ((L.take k).filter (fun x => x != o)).length ≤ k := by
  have h1 := List.length_filter_le (fun x => x != o) (L.take k)
  have h2 := List.length_take_le k L
  omega
theorem app_get2 {xs : List Nat} {c i x : Nat} (h : (xs ++ [c])[i]? = some x) : (i < xs.length ∧ xs[i]? = some x) ∨ (i = xs.length ∧ x = c) := by
  rcases Nat.lt_trichotomy i xs.length with q | q | q
  · rw [List.getElem?_append_left q] at h; exact Or.inl ⟨q, h⟩
  · rw [List.getElem?_append_right (by omega), q, Nat.sub_self] at h
    exact Or.inr ⟨q, (Option.some.inj h).symm⟩
  · rw [List.getElem?_eq_none (by simp; omega)] at h; cases h
theorem c_MtakeOut (l : Launch) (Θ : Glob) (M : Mem) (Y : Nat) (ar : Nat → Nat) (V : Nat → Nat → Int32) (I : Nat → Int32) (hV : MV M Y ar V I) (S : TS) (hS : TV V S) (hW : WF S) (o q : Nat) (hp : pr S o = some q) : Ct l Θ y_MtakeOut 1 0 0 [.ref Y, .int (nI o)] M (pV fun N => ∃ V2, MV N Y ar V2 I ∧ TV V2 (tk S o) ∧ (∀ f, f ≠ 176 → f ≠ 177 → ∀ j, V2 f j = V f j) ∧ Fr (MZ M) M N) := by
  have hpo := hS.2.1 o q hp
  obtain ⟨hq40, ho40⟩ := hW.ple hp
  have hkl := hW.klen q
  have hkq := hS.2.2.2.1 q hq40
  have hkk : ∀ i x, (ki S q)[i]? = some x → V 177 (40 * q + i) = nI x := fun i x => hS.2.2.2.2 q i x hq40
  have herase : (ki S q).filter (fun x => x != o) = (ki S q).erase o := ((hW.nd q).erase_eq_filter o).symm
  have htk := tk_ki hW hp
  refine Ct.start (cc := b_MtakeOut) (nL := 6) (ret := none) [some (.ref Y), some (.int (nI o)), none, none, none, none] mi_MtakeOut.1 (by decide +kernel) (by intro v hv; simp at hv; rcases hv with rfl | rfl <;> rfl) (by simp) rfl (fun p e s m args below meth c hC => ?_)
  have loop : ∀ (r i : Nat) (M1 : Mem) (V1 : Nat → Nat → Int32) (a5 : Option Value), i + r = (ki S q).length → MV M1 Y ar V1 I → (∀ f, f ≠ 177 → ∀ j, V1 f j = V f j) → (∀ j x, ((ki S q).take i |>.filter (fun x => x != o))[j]? = some x → V1 177 (40 * q + j) = nI x) → (∀ j, j < 40 * q ∨ 40 * q + i ≤ j → V1 177 j = V 177 j) → Fr (MZ M) M M1 → Gj p l e (rmo 1 0 0) s m args below meth c Θ M1 [some (.ref Y), some (.int (nI o)), some (.int (nI q)), some (.int (nI ((ki S q).take i |>.filter (fun x => x != o)).length)), some (.int (nI i)), a5] 0 0 (Fn below args s Θ 0 0 (pV fun N => ∃ V2, MV N Y ar V2 I ∧ TV V2 (tk S o) ∧ (∀ f, f ≠ 176 → f ≠ 177 → ∀ j, V2 f j = V f j) ∧ Fr (MZ M) M N)) 12 [] := by
    intro r
    induction r with
    | zero =>
      intro i M1 V1 a5 hi hV1 hof hpre hrest hF
      have hi : i = (ki S q).length := hi
      rw [hi, List.take_length] at hpre ⊢
      have hk1 : V1 176 q = nI (ki S q).length := (hof 176 (by omega) q).trans hkq
      refine r_iload hC 4 d_MtakeOut_12 rfl ?_
      refine r_aload_n hC 0 d_MtakeOut_14 rfl rfl ?_
      refine r_getS hC 5 16 176 fl_M54 (by exact hV1.k) d_MtakeOut_15 rfl rfl (by exact (hV1.rf 176 (by decide))) ?_
      refine r_iload_n hC 2 d_MtakeOut_18 rfl rfl ?_
      refine r_iald hC (q) (hV1.ak 176 (by decide)) rfl (by rw [hV1.al 176 (by decide)]; exact (show q < mLn 176 from (by show q < 41; omega))) (by rw [hV1.al 176 (by decide)]; decide) d_MtakeOut_19 (hV1.el 176 (by decide) (q)) ?_
      rw [hk1]
      refine r_icmp_ge hC 68 d_MtakeOut_20 (by decide) (fun _ => ?_) (fun z => absurd (Int32.le_refl _) z)
      refine r_aload_n hC 0 d_MtakeOut_68 rfl rfl ?_
      refine r_getS hC 5 16 176 fl_M54 (by exact hV1.k) d_MtakeOut_69 rfl rfl (by exact (hV1.rf 176 (by decide))) ?_
      refine r_iload_n hC 2 d_MtakeOut_72 rfl rfl ?_
      refine r_iload_n hC 3 d_MtakeOut_73 rfl rfl ?_
      refine r_iast hC (q) (hV1.ak 176 (by decide)) rfl (by rw [hV1.al 176 (by decide)]; exact (show q < mLn 176 from (by show q < 41; omega))) (by rw [hV1.al 176 (by decide)]; decide) d_MtakeOut_74 ?_
      obtain ⟨hV2, f2⟩ := hV1.st 176 (by decide) q (nI ((ki S q).filter (fun x => x != o)).length)
      refine r_vret hC d_MtakeOut_75 (Nat.le_refl _) (Nat.le_refl _) ⟨rfl, _, hV2, ?_, fun f h1 h2 j => ?_, hF.trans f2 (MZ.old hF)⟩
      · refine ⟨fun x hx => ?_, fun x y hx => ?_, fun x hx => ?_, fun y hy => ?_, fun y j x hy hj => ?_⟩
        · rw [up2_ne _ _ (by omega), hof 173 (by omega), tk_th]; exact hS.1 x hx
        · rw [up2_ne _ _ (by omega), hof 174 (by omega)]
          rw [tk_pr] at hx
          by_cases e : x = o
          · rw [e, va_up_self] at hx; cases hx
          · rw [va_up_ne _ _ e] at hx; exact hS.2.1 x y hx
        · rw [up2_ne _ _ (by omega), hof 175 (by omega), tk_las]; exact hS.2.2.1 x hx
        · rw [htk y]
          by_cases e : y = q
          · rw [if_pos e, e, up2_self, herase]
          · rw [if_neg e, up2_ne _ _ (fun z => e z.2), hof 176 (by omega)]; exact hS.2.2.2.1 y hy
        · rw [up2_ne _ _ (by omega)]
          rw [htk y] at hj
          by_cases e : y = q
          · rw [if_pos e, ← herase] at hj
            rw [e]; exact hpre j x hj
          · rw [if_neg e] at hj
            have hjl := (List.getElem?_eq_some_iff.mp hj).1
            have := hW.klen y
            rw [hrest _ (by omega)]
            exact hS.2.2.2.2 y j x hy hj
      · rw [up2_ne _ _ (fun z => h1 z.1)]; exact hof f h2 j
    | succ r ih =>
      intro i M1 V1 a5 hi hV1 hof hpre hrest hF
      obtain ⟨cc2, hc, hcm⟩ := get_some (l := ki S q) (i := i) (by omega)
      have hk1 : V1 176 q = nI (ki S q).length := (hof 176 (by omega) q).trans hkq
      have hcv : V1 177 (40 * q + i) = nI cc2 := (hrest _ (by omega)).trans (hkk i cc2 hc)
      have hc40 := (hW.klt hcm).1
      have hsn := fil_snoc (ki S q) o i cc2 hc
      have hfl := fil_len (ki S q) o i
      have ih2 := ih (i + 1)
      rw [hsn] at ih2
      refine r_iload hC 4 d_MtakeOut_12 rfl ?_
      refine r_aload_n hC 0 d_MtakeOut_14 rfl rfl ?_
      refine r_getS hC 5 16 176 fl_M54 (by exact hV1.k) d_MtakeOut_15 rfl rfl (by exact (hV1.rf 176 (by decide))) ?_
      refine r_iload_n hC 2 d_MtakeOut_18 rfl rfl ?_
      refine r_iald hC (q) (hV1.ak 176 (by decide)) rfl (by rw [hV1.al 176 (by decide)]; exact (show q < mLn 176 from (by show q < 41; omega))) (by rw [hV1.al 176 (by decide)]; decide) d_MtakeOut_19 (hV1.el 176 (by decide) (q)) ?_
      rw [hk1]
      refine r_icmp_ge hC 68 d_MtakeOut_20 (by decide) (fun z => absurd z (nI_ge (by omega) (by omega))) (fun _ => ?_)
      refine r_aload_n hC 0 d_MtakeOut_23 rfl rfl ?_
      refine r_getS hC 5 17 177 fl_M57 (by exact hV1.k) d_MtakeOut_24 rfl rfl (by exact (hV1.rf 177 (by decide))) ?_
      refine r_bipush hC 40 d_MtakeOut_27 (by decide) ?_
      refine r_iload_n hC 2 d_MtakeOut_29 rfl rfl ?_
      refine r_imul hC (nI (40 * q)) d_MtakeOut_30 (pk_mul 40 q) ?_
      refine r_iload hC 4 d_MtakeOut_31 rfl ?_
      refine r_iadd hC (nI (40 * q + i)) d_MtakeOut_33 (nI_add _ _) ?_
      refine r_iald hC (40 * q + i) (hV1.ak 177 (by decide)) rfl (by rw [hV1.al 177 (by decide)]; exact (show 40 * q + i < mLn 177 from (by show 40 * q + i < 1640; omega))) (by rw [hV1.al 177 (by decide)]; decide) d_MtakeOut_34 (hV1.el 177 (by decide) (40 * q + i)) ?_
      rw [hcv]
      refine r_is5 hC d_MtakeOut_35 ?_
      refine r_iload hC 5 d_MtakeOut_37 rfl ?_
      refine r_iload_n hC 1 d_MtakeOut_39 rfl rfl ?_
      refine r_icmp_ne hC 46 d_MtakeOut_40 (by decide) (fun z => ?_) (fun z => ?_)
      · have hne : cc2 ≠ o := fun e => z (by rw [e])
        rw [if_neg hne] at ih2
        refine r_aload_n hC 0 d_MtakeOut_46 rfl rfl ?_
        refine r_getS hC 5 17 177 fl_M57 (by exact hV1.k) d_MtakeOut_47 rfl rfl (by exact (hV1.rf 177 (by decide))) ?_
        refine r_bipush hC 40 d_MtakeOut_50 (by decide) ?_
        refine r_iload_n hC 2 d_MtakeOut_52 rfl rfl ?_
        refine r_imul hC (nI (40 * q)) d_MtakeOut_53 (pk_mul 40 q) ?_
        refine r_iload_n hC 3 d_MtakeOut_54 rfl rfl ?_
        refine r_iadd hC (nI (40 * q + ((ki S q).take i |>.filter (fun x => x != o)).length)) d_MtakeOut_55 (nI_add _ _) ?_
        refine r_iload hC 5 d_MtakeOut_56 rfl ?_
        refine r_iast hC (40 * q + ((ki S q).take i |>.filter (fun x => x != o)).length) (hV1.ak 177 (by decide)) rfl (by rw [hV1.al 177 (by decide)]; exact (show 40 * q + ((ki S q).take i |>.filter (fun x => x != o)).length < mLn 177 from (by show 40 * q + ((ki S q).take i |>.filter (fun x => x != o)).length < 1640; omega))) (by rw [hV1.al 177 (by decide)]; decide) d_MtakeOut_58 ?_
        obtain ⟨hV2, f2⟩ := hV1.st 177 (by decide) (40 * q + ((ki S q).take i |>.filter (fun x => x != o)).length) (nI cc2)
        generalize sEI M1 (ar 177) (40 * q + ((ki S q).take i |>.filter (fun x => x != o)).length) (nI cc2) = M2 at hV2 f2 ⊢
        rw [List.length_append] at ih2
        refine r_ii3 hC (nI (((ki S q).take i |>.filter (fun x => x != o)).length + [cc2].length)) d_MtakeOut_59 (nI_1 _) ?_
        refine r_ii4 hC (nI (i + 1)) d_MtakeOut_62 (nI_1 _) ?_
        refine r_goto hC 12 d_MtakeOut_65 (by decide) ?_
        refine ih2 M2 _ _ (by omega) hV2 (fun f hf j => ?_) (fun j x hj => ?_) (fun j hj => ?_) (hF.trans f2 (MZ.old hF))
        · rw [up2_ne _ _ (fun w => hf w.1)]; exact hof f hf j
        · rcases app_get2 hj with ⟨j1, j2⟩ | ⟨j1, j2⟩
          · rw [up2_ne _ _ (by omega)]; exact hpre j x j2
          · rw [j1, up2_self, j2]
        · rw [up2_ne _ _ (by omega)]; exact hrest j (by omega)
      · have he : cc2 = o := (nI_eq (by omega) (by omega)).mp z
        rw [if_pos he, List.append_nil] at ih2
        refine r_goto hC 62 d_MtakeOut_43 (by decide) ?_
        refine r_ii4 hC (nI (i + 1)) d_MtakeOut_62 (nI_1 _) ?_
        refine r_goto hC 12 d_MtakeOut_65 (by decide) ?_
        exact ih2 M1 V1 _ (by omega) hV1 hof hpre (fun j hj => hrest j (by omega)) hF
  refine r_aload_n hC 0 d_MtakeOut_0 rfl rfl ?_
  refine r_getS hC 5 14 174 fl_M48 (by exact hV.k) d_MtakeOut_1 rfl rfl (by exact (hV.rf 174 (by decide))) ?_
  refine r_iload_n hC 1 d_MtakeOut_4 rfl rfl ?_
  refine r_iald hC (o) (hV.ak 174 (by decide)) rfl (by rw [hV.al 174 (by decide)]; exact (show o < mLn 174 from (by show o < 40; omega))) (by rw [hV.al 174 (by decide)]; decide) d_MtakeOut_5 (hV.el 174 (by decide) (o)) ?_
  rw [hpo]
  refine r_is2 hC d_MtakeOut_6 ?_
  refine r_iconst hC 0 d_MtakeOut_7 (by decide) ?_
  refine r_is3 hC d_MtakeOut_8 ?_
  refine r_iconst hC 0 d_MtakeOut_9 (by decide) ?_
  refine r_is4 hC d_MtakeOut_10 ?_
  exact loop (ki S q).length 0 M V none (by omega) hV (fun _ _ _ => rfl) (fun j x hj => by simp at hj) (fun _ _ => rfl) Fr.rf
theorem c_MputAt (l : Launch) (Θ : Glob) (M : Mem) (Y : Nat) (ar : Nat → Nat) (V : Nat → Nat → Int32) (I : Nat → Int32) (hV : MV M Y ar V I) (S : TS) (hS : TV V S) (o q a : Nat) (ho : o < 40) (hq : q ≤ 40) (hkl : ∀ y, y ≤ 40 → (ki S y).length ≤ 39) (hat : a ≤ (ki S q).length) : Ct l Θ y_MputAt 1 0 0 [.ref Y, .int (nI o), .int (nI q), .int (nI a)] M (pV fun N => ∃ V2, MV N Y ar V2 I ∧ TV V2 (pt S o q a) ∧ (∀ f, f ≠ 174 → f ≠ 176 → f ≠ 177 → ∀ j, V2 f j = V f j) ∧ Fr (MZ M) M N) := by
  have hlq := hkl q hq
  have hkq := hS.2.2.2.1 q hq
  have hkk : ∀ i x, (ki S q)[i]? = some x → V 177 (40 * q + i) = nI x := fun i x => hS.2.2.2.2 q i x hq
  refine Ct.start (cc := b_MputAt) (nL := 5) (ret := none) [some (.ref Y), some (.int (nI o)), some (.int (nI q)), some (.int (nI a)), none] mi_MputAt.1 (by decide +kernel) (by intro v hv; simp at hv; rcases hv with rfl | rfl | rfl | rfl <;> rfl) (by simp) rfl (fun p e s m args below meth c hC => ?_)
  have loop : ∀ (r : Nat) (M1 : Mem) (V1 : Nat → Nat → Int32), a + r ≤ (ki S q).length → MV M1 Y ar V1 I → (∀ f, f ≠ 177 → ∀ j, V1 f j = V f j) → (∀ j, a + r < j → j ≤ (ki S q).length → V1 177 (40 * q + j) = V 177 (40 * q + (j - 1))) → (∀ j, j ≤ 40 * q + (a + r) ∨ 40 * q + (ki S q).length < j → V1 177 j = V 177 j) → Fr (MZ M) M M1 → Gj p l e (rmo 1 0 0) s m args below meth c Θ M1 [some (.ref Y), some (.int (nI o)), some (.int (nI q)), some (.int (nI a)), some (.int (nI (a + r)))] 0 0 (Fn below args s Θ 0 0 (pV fun N => ∃ V2, MV N Y ar V2 I ∧ TV V2 (pt S o q a) ∧ (∀ f, f ≠ 174 → f ≠ 176 → f ≠ 177 → ∀ j, V2 f j = V f j) ∧ Fr (MZ M) M N)) 8 [] := by
    intro r
    induction r with
    | zero =>
      intro M1 V1 hr hV1 hof hsh hrest hF
      have hsh : ∀ j, a < j → j ≤ (ki S q).length → V1 177 (40 * q + j) = V 177 (40 * q + (j - 1)) := hsh
      have hrest : ∀ j, j ≤ 40 * q + a ∨ 40 * q + (ki S q).length < j → V1 177 j = V 177 j := hrest
      refine r_iload hC 4 d_MputAt_8 rfl ?_
      refine r_iload_n hC 3 d_MputAt_10 rfl rfl ?_
      refine r_icmp_le hC 46 d_MputAt_11 (by decide) (fun _ => ?_) (fun z => absurd (Int32.le_refl _) z)
      refine r_aload_n hC 0 d_MputAt_46 rfl rfl ?_
      refine r_getS hC 5 17 177 fl_M57 (by exact hV1.k) d_MputAt_47 rfl rfl (by exact (hV1.rf 177 (by decide))) ?_
      refine r_bipush hC 40 d_MputAt_50 (by decide) ?_
      refine r_iload_n hC 2 d_MputAt_52 rfl rfl ?_
      refine r_imul hC (nI (40 * q)) d_MputAt_53 (pk_mul 40 q) ?_
      refine r_iload_n hC 3 d_MputAt_54 rfl rfl ?_
      refine r_iadd hC (nI (40 * q + a)) d_MputAt_55 (nI_add _ _) ?_
      refine r_iload_n hC 1 d_MputAt_56 rfl rfl ?_
      refine r_iast hC (40 * q + a) (hV1.ak 177 (by decide)) rfl (by rw [hV1.al 177 (by decide)]; exact (show 40 * q + a < mLn 177 from (by show 40 * q + a < 1640; omega))) (by rw [hV1.al 177 (by decide)]; decide) d_MputAt_57 ?_
      obtain ⟨hV2, f2⟩ := hV1.st 177 (by decide) (40 * q + a) (nI o)
      generalize sEI M1 (ar 177) (40 * q + a) (nI o) = M2 at hV2 f2 ⊢
      have hk2 : up2 V1 177 (40 * q + a) (nI o) 176 q = nI (ki S q).length := by rw [up2_ne _ _ (by omega), hof 176 (by omega)]; exact hkq
      refine r_aload_n hC 0 d_MputAt_58 rfl rfl ?_
      refine r_getS hC 5 16 176 fl_M54 (by exact hV2.k) d_MputAt_59 rfl rfl (by exact (hV2.rf 176 (by decide))) ?_
      refine r_iload_n hC 2 d_MputAt_62 rfl rfl ?_
      refine r_dup2 hC d_MputAt_63 rfl rfl ?_
      refine r_iald hC (q) (hV2.ak 176 (by decide)) rfl (by rw [hV2.al 176 (by decide)]; exact (show q < mLn 176 from (by show q < 41; omega))) (by rw [hV2.al 176 (by decide)]; decide) d_MputAt_64 (hV2.el 176 (by decide) (q)) ?_
      rw [hk2]
      refine r_iconst hC 1 d_MputAt_65 (by decide) ?_
      refine r_iadd hC (nI ((ki S q).length + 1)) d_MputAt_66 (nI_1 _) ?_
      refine r_iast hC (q) (hV2.ak 176 (by decide)) rfl (by rw [hV2.al 176 (by decide)]; exact (show q < mLn 176 from (by show q < 41; omega))) (by rw [hV2.al 176 (by decide)]; decide) d_MputAt_67 ?_
      obtain ⟨hV3, f3⟩ := hV2.st 176 (by decide) q (nI ((ki S q).length + 1))
      generalize sEI M2 (ar 176) q (nI ((ki S q).length + 1)) = M3 at hV3 f3 ⊢
      refine r_aload_n hC 0 d_MputAt_68 rfl rfl ?_
      refine r_getS hC 5 14 174 fl_M48 (by exact hV3.k) d_MputAt_69 rfl rfl (by exact (hV3.rf 174 (by decide))) ?_
      refine r_iload_n hC 1 d_MputAt_72 rfl rfl ?_
      refine r_iload_n hC 2 d_MputAt_73 rfl rfl ?_
      refine r_iast hC (o) (hV3.ak 174 (by decide)) rfl (by rw [hV3.al 174 (by decide)]; exact (show o < mLn 174 from (by show o < 40; omega))) (by rw [hV3.al 174 (by decide)]; decide) d_MputAt_74 ?_
      obtain ⟨hV4, f4⟩ := hV3.st 174 (by decide) o (nI q)
      have F2 := hF.trans f2 (MZ.old hF)
      have F3 := F2.trans f3 (MZ.old F2)
      refine r_vret hC d_MputAt_75 (Nat.le_refl _) (Nat.le_refl _) ⟨rfl, _, hV4, ?_, fun f h1 h2 h3 j => ?_, F3.trans f4 (MZ.old F3)⟩
      · refine ⟨fun x hx => ?_, fun x y hx => ?_, fun x hx => ?_, fun y hy => ?_, fun y j x hy hj => ?_⟩
        · rw [up2_ne _ _ (by omega), up2_ne _ _ (by omega), up2_ne _ _ (by omega), hof 173 (by omega)]; exact hS.1 x hx
        · have hx : va_up (pr S) o (some q) x = some y := hx
          by_cases e : x = o
          · rw [e, va_up_self] at hx
            rw [e, up2_self, ← Option.some.inj hx]
          · rw [va_up_ne _ _ e] at hx
            rw [up2_ne _ _ (fun z => e z.2), up2_ne _ _ (by omega), up2_ne _ _ (by omega), hof 174 (by omega)]; exact hS.2.1 x y hx
        · rw [up2_ne _ _ (by omega), up2_ne _ _ (by omega), up2_ne _ _ (by omega), hof 175 (by omega)]; exact hS.2.2.1 x hx
        · show _ = nI (va_up (ki S) q _ y).length
          rw [up2_ne _ _ (by omega)]
          by_cases e : y = q
          · rw [e, va_up_self, up2_self, List.length_insertIdx_of_le_length hat]
          · rw [va_up_ne _ _ e, up2_ne _ _ (fun z => e z.2), up2_ne _ _ (by omega), hof 176 (by omega)]; exact hS.2.2.2.1 y hy
        · have hj : (va_up (ki S) q ((ki S q).insertIdx a o) y)[j]? = some x := hj
          rw [up2_ne _ _ (by omega), up2_ne _ _ (by omega)]
          by_cases e : y = q
          · rw [e, va_up_self, ins_get hat] at hj
            rw [e]
            by_cases j1 : j < a
            · rw [if_pos j1] at hj
              rw [up2_ne _ _ (by omega), hrest _ (by omega)]; exact hkk j x hj
            · rw [if_neg j1] at hj
              by_cases j2 : j = a
              · rw [if_pos j2] at hj
                rw [j2, up2_self, Option.some.inj hj]
              · rw [if_neg j2] at hj
                have := (List.getElem?_eq_some_iff.mp hj).1
                rw [up2_ne _ _ (by omega), hsh j (by omega) (by omega)]; exact hkk (j - 1) x hj
          · rw [va_up_ne _ _ e] at hj
            have h1 := (List.getElem?_eq_some_iff.mp hj).1
            have h2 := hkl y hy
            rw [up2_ne _ _ (by omega), hrest _ (by omega)]
            exact hS.2.2.2.2 y j x hy hj
      · rw [up2_ne _ _ (fun z => h1 z.1), up2_ne _ _ (fun z => h2 z.1), up2_ne _ _ (fun z => h3 z.1)]; exact hof f h3 j
    | succ r ih =>
      intro M1 V1 hr hV1 hof hsh hrest hF
      have hv1 : V1 177 (40 * q + (a + r)) = V 177 (40 * q + (a + r)) := hrest _ (by omega)
      refine r_iload hC 4 d_MputAt_8 rfl ?_
      refine r_iload_n hC 3 d_MputAt_10 rfl rfl ?_
      refine r_icmp_le hC 46 d_MputAt_11 (by decide) (fun z => absurd ((nI_leI (by omega) (by omega)).mp z) (by omega)) (fun _ => ?_)
      refine r_aload_n hC 0 d_MputAt_14 rfl rfl ?_
      refine r_getS hC 5 17 177 fl_M57 (by exact hV1.k) d_MputAt_15 rfl rfl (by exact (hV1.rf 177 (by decide))) ?_
      refine r_bipush hC 40 d_MputAt_18 (by decide) ?_
      refine r_iload_n hC 2 d_MputAt_20 rfl rfl ?_
      refine r_imul hC (nI (40 * q)) d_MputAt_21 (pk_mul 40 q) ?_
      refine r_iload hC 4 d_MputAt_22 rfl ?_
      refine r_iadd hC (nI (40 * q + (a + (r + 1)))) d_MputAt_24 (nI_add _ _) ?_
      refine r_aload_n hC 0 d_MputAt_25 rfl rfl ?_
      refine r_getS hC 5 17 177 fl_M57 (by exact hV1.k) d_MputAt_26 rfl rfl (by exact (hV1.rf 177 (by decide))) ?_
      refine r_bipush hC 40 d_MputAt_29 (by decide) ?_
      refine r_iload_n hC 2 d_MputAt_31 rfl rfl ?_
      refine r_imul hC (nI (40 * q)) d_MputAt_32 (pk_mul 40 q) ?_
      refine r_iload hC 4 d_MputAt_33 rfl ?_
      refine r_iadd hC (nI (40 * q + (a + (r + 1)))) d_MputAt_35 (nI_add _ _) ?_
      refine r_iconst hC 1 d_MputAt_36 (by decide) ?_
      refine r_isub hC (nI (40 * q + (a + r))) d_MputAt_37 (nI_pred _) ?_
      refine r_iald hC (40 * q + (a + r)) (hV1.ak 177 (by decide)) rfl (by rw [hV1.al 177 (by decide)]; exact (show 40 * q + (a + r) < mLn 177 from (by show 40 * q + (a + r) < 1640; omega))) (by rw [hV1.al 177 (by decide)]; decide) d_MputAt_38 (hV1.el 177 (by decide) (40 * q + (a + r))) ?_
      rw [hv1]
      refine r_iast hC (40 * q + (a + (r + 1))) (hV1.ak 177 (by decide)) rfl (by rw [hV1.al 177 (by decide)]; exact (show 40 * q + (a + (r + 1)) < mLn 177 from (by show 40 * q + (a + (r + 1)) < 1640; omega))) (by rw [hV1.al 177 (by decide)]; decide) d_MputAt_39 ?_
      obtain ⟨hV2, f2⟩ := hV1.st 177 (by decide) (40 * q + (a + (r + 1))) (V 177 (40 * q + (a + r)))
      generalize sEI M1 (ar 177) (40 * q + (a + (r + 1))) (V 177 (40 * q + (a + r))) = M2 at hV2 f2 ⊢
      refine r_ii4 hC (nI (a + r)) d_MputAt_40 (pk_m1 _) ?_
      refine r_goto hC 8 d_MputAt_43 (by decide) ?_
      refine ih M2 _ (by omega) hV2 (fun f hf j => ?_) (fun j h1 h2 => ?_) (fun j hj => ?_) (hF.trans f2 (MZ.old hF))
      · rw [up2_ne _ _ (fun w => hf w.1)]; exact hof f hf j
      · by_cases e : j = a + (r + 1)
        · rw [e, up2_self]; rfl
        · rw [up2_ne _ _ (by omega)]; exact hsh j (by omega) h2
      · rw [up2_ne _ _ (by omega)]; exact hrest j (by omega)
  refine r_aload_n hC 0 d_MputAt_0 rfl rfl ?_
  refine r_getS hC 5 16 176 fl_M54 (by exact hV.k) d_MputAt_1 rfl rfl (by exact (hV.rf 176 (by decide))) ?_
  refine r_iload_n hC 2 d_MputAt_4 rfl rfl ?_
  refine r_iald hC (q) (hV.ak 176 (by decide)) rfl (by rw [hV.al 176 (by decide)]; exact (show q < mLn 176 from (by show q < 41; omega))) (by rw [hV.al 176 (by decide)]; decide) d_MputAt_5 (hV.el 176 (by decide) (q)) ?_
  rw [hkq]
  refine r_is4 hC d_MputAt_6 ?_
  have h := loop ((ki S q).length - a) M V (by omega) hV (fun _ _ _ => rfl) (fun j h1 h2 => by omega) (fun _ _ => rfl) Fr.rf
  rw [show a + ((ki S q).length - a) = (ki S q).length by omega] at h
  exact h
