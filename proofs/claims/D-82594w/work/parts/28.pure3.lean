/-! ROWS IN ORDER: R: the rows by number, U: which are undone, ns: the numbers in order -/
def befP (a b : RowT) : Prop := rT a < rT b ∨ (rT a = rT b ∧ rW a < rW b)
def bef (a b : RowT) : Bool := decide (rT a < rT b) || (decide (rT a = rT b) && decide (rW a < rW b))
theorem bef_iff {a b : RowT} : bef a b = true ↔ befP a b := by simp [bef, befP]
theorem bef_f {a b : RowT} : bef a b = false ↔ ¬ befP a b := by rw [← bef_iff]; simp
theorem befP.trans {a b c : RowT} (h : befP a b) (h2 : befP b c) : befP a c := by unfold befP at *; omega
theorem befP.irr {a : RowT} : ¬ befP a a := by unfold befP; omega
theorem befP.asym {a b : RowT} (h : befP a b) : ¬ befP b a := by unfold befP at *; omega
noncomputable def rn (R : Nat → RowT) (U : Nat → Bool) (S : TS) : List Nat → TS
  | [] => S
  | i :: l => rn R U (gR (U i) S (R i)).1 l
theorem rn_app (R : Nat → RowT) (U : Nat → Bool) (S : TS) (l1 l2 : List Nat) : rn R U S (l1 ++ l2) = rn R U (rn R U S l1) l2 := by
  induction l1 generalizing S with
  | nil => rfl
  | cons a l ih => exact ih _
theorem rn_snoc (R : Nat → RowT) (U : Nat → Bool) (S : TS) (l : List Nat) (i : Nat) : rn R U S (l ++ [i]) = (gR (U i) (rn R U S l) (R i)).1 := rn_app R U S l [i]
theorem rn_cong {R : Nat → RowT} {U V : Nat → Bool} {S : TS} {l : List Nat} (h : ∀ i ∈ l, U i = V i) : rn R U S l = rn R V S l := by
  induction l generalizing S with
  | nil => rfl
  | cons a l ih =>
    show rn R U (gR (U a) S (R a)).1 l = rn R V (gR (V a) S (R a)).1 l
    rw [h a List.mem_cons_self]
    exact ih (fun i hi => h i (List.mem_cons_of_mem _ hi))
theorem rn_congR {R Q : Nat → RowT} {U : Nat → Bool} {S : TS} {l : List Nat} (h : ∀ i ∈ l, R i = Q i) : rn R U S l = rn Q U S l := by
  induction l generalizing S with
  | nil => rfl
  | cons a l ih =>
    show rn R U (gR (U a) S (R a)).1 l = rn Q U (gR (U a) S (Q a)).1 l
    rw [h a List.mem_cons_self]
    exact ih (fun i hi => h i (List.mem_cons_of_mem _ hi))
/-! who is there -/
theorem th_tkpt (S : TS) (o p k : Nat) : th (pt (tk S o) o p k) = th S := tk_th S o
theorem doRow_th {S : TS} {r : RowT} {o : Nat} (h : th (doRow S r).1 o = true) : th S o = true ∨ (rS r = 0 ∧ rO r = o) := by
  rcases (show rS r = 0 ∨ rS r = 1 ∨ rS r = 2 ∨ 3 ≤ rS r by omega) with hs | hs | hs | hs
  · rw [doRow_0 hs] at h
    have h : va_up (th S) (rO r) true o = true := h
    by_cases ho : o = rO r
    · exact Or.inr ⟨hs, ho.symm⟩
    · rw [va_up_ne _ _ ho] at h; exact Or.inl h
  · rw [doRow_1 hs] at h
    unfold dMove at h
    split at h
    · have h : th (tk S (rO r)) o = true := h
      rw [tk_th] at h; exact Or.inl h
    · exact Or.inl h
  · rw [doRow_2 hs] at h
    unfold dRem at h
    split at h
    · have h : th (tk S (rO r)) o = true := h
      rw [tk_th] at h; exact Or.inl h
    · exact Or.inl h
  · rw [doRow_3 hs] at h
    unfold dRes at h
    split at h
    · have h : th (tk S (rO r)) o = true := h
      rw [tk_th] at h; exact Or.inl h
    · exact Or.inl h
theorem gR_th {u : Bool} {S : TS} {r : RowT} {o : Nat} (h : th (gR u S r).1 o = true) : th S o = true ∨ (rS r = 0 ∧ rO r = o) := by
  unfold gR at h
  split at h
  · exact Or.inl h
  · exact doRow_th h
theorem rn_th {R : Nat → RowT} {U : Nat → Bool} {l : List Nat} {S : TS} {o : Nat} (h : th (rn R U S l) o = true) : th S o = true ∨ ∃ i ∈ l, rS (R i) = 0 ∧ rO (R i) = o := by
  induction l generalizing S with
  | nil => exact Or.inl h
  | cons a l ih =>
    rcases ih h with h2 | ⟨i, hi, h2⟩
    · rcases gR_th h2 with h3 | h3
      · exact Or.inl h3
      · exact Or.inr ⟨a, List.mem_cons_self, h3⟩
    · exact Or.inr ⟨i, List.mem_cons_of_mem _ hi, h2⟩
/-- rows that a tree may do, each object made once -/
def nsOk (R : Nat → RowT) (ns : List Nat) : Prop := ns.Nodup ∧ (∀ i ∈ ns, rOk (R i)) ∧ ∀ i ∈ ns, ∀ j ∈ ns, rS (R i) = 0 → rS (R j) = 0 → rO (R i) = rO (R j) → i = j
theorem nsOk.sub {R : Nat → RowT} {ns l : List Nat} (h : nsOk R ns) (hl : l.Sublist ns) : nsOk R l := ⟨hl.nodup h.1, fun i hi => h.2.1 i (hl.subset hi), fun i hi j hj => h.2.2 i (hl.subset hi) j (hl.subset hj)⟩
theorem nsOk.mk {R : Nat → RowT} {U : Nat → Bool} {l1 l2 : List Nat} {i : Nat} (h : nsOk R (l1 ++ i :: l2)) (hs : rS (R i) = 0) : th (rn R U tS0 l1) (rO (R i)) = false := by
  cases ht : th (rn R U tS0 l1) (rO (R i)) with
  | false => rfl
  | true =>
    rcases rn_th ht with h2 | ⟨j, hj, h3, h4⟩
    · have h5 : rO (R i) = 0 := by simpa [tS0, th] using h2
      have := (h.2.1 i (by simp)).1
      omega
    · have := h.2.2 j (by simp [hj]) i (by simp) h3 hs h4
      subst this
      have hn := h.1
      rw [List.nodup_append] at hn
      exact absurd rfl (hn.2.2 j hj j List.mem_cons_self)
theorem okR_of {R : Nat → RowT} {U : Nat → Bool} {l1 l2 : List Nat} {i : Nat} (h : nsOk R (l1 ++ i :: l2)) : okR (rn R U tS0 l1) (R i) := by
  have := h.2.1 i (by simp)
  exact ⟨this.1, this.2.1, fun hs => h.mk hs⟩
theorem WF.gr {S : TS} (h : WF S) {u : Bool} {r : RowT} (hr : okR S r) : WF (gR u S r).1 := by
  unfold gR
  split
  · exact h
  · exact h.row hr
theorem WF.rn {R : Nat → RowT} {U : Nat → Bool} {l : List Nat} (h : nsOk R l) : WF (rn R U tS0 l) := by
  have key : ∀ n, n ≤ l.length → WF (Jvm.Pilot.CBinTreesLaw_law_r9096_40ec0f.rn R U tS0 (l.take n)) := by
    intro n
    induction n with
    | zero => intro _; exact WF.s0
    | succ n ih =>
      intro hn
      obtain ⟨x, hx, -⟩ := get_some (l := l) (i := n) (by omega)
      rw [take_succ' hx, rn_snoc]
      have hsub : nsOk R (l.take n ++ x :: []) := by
        have := h.sub (List.take_sublist (n + 1) l)
        rw [take_succ' hx] at this
        exact this
      exact (ih (by omega)).gr (okR_of hsub)
  have := key l.length (Nat.le_refl _)
  rwa [List.take_length] at this
/-! capacities along the way -/
theorem pcC_anti {a b : Nat} (h : a ≤ b) : pcC b ≤ pcC a := by
  unfold pcC
  repeat' split
  all_goals omega
theorem pcS_anti {a b : Nat} (h : a ≤ b) : pcS b ≤ pcS a := by
  unfold pcS
  repeat' split
  all_goals omega
theorem gcap_ge (n c : Nat) : c ≤ gcap n c := by
  unfold gcap
  split
  · omega
  · exact Nat.le_of_lt (ncap_gt c)
theorem sumF_le {f g : Nat → Nat} (h : ∀ i, f i ≤ g i) : ∀ n, sumF f n ≤ sumF g n
  | 0 => Nat.le_refl _
  | n + 1 => Nat.add_le_add (sumF_le h n) (h n)
theorem cpP_mono (cp : Nat → Nat) (S : TS) (p : Nat) : kC (cpP cp S p) ≤ kC cp ∧ kS (cpP cp S p) ≤ kS cp := by
  have key : ∀ o, cp o ≤ cpP cp S p o := fun o => by
    unfold cpP
    by_cases h : o = p
    · subst h; rw [va_up_self]; exact gcap_ge _ _
    · rw [va_up_ne _ _ h]; exact Nat.le_refl _
  exact ⟨sumF_le (fun o => pcC_anti (key o)) 41, sumF_le (fun o => pcS_anti (key o)) 41⟩
theorem cpGo_mono (u : Bool) (S : TS) (cp : Nat → Nat) (r : RowT) : kC (cpGo u S cp r) ≤ kC cp ∧ kS (cpGo u S cp r) ≤ kS cp := by
  have rf : kC cp ≤ kC cp ∧ kS cp ≤ kS cp := ⟨Nat.le_refl _, Nat.le_refl _⟩
  unfold cpGo
  split
  · exact rf
  · unfold cpR
    split
    · exact cpP_mono _ _ _
    · split
      · unfold cpMv; split
        · exact cpP_mono _ _ _
        · exact rf
      · split
        · unfold cpRm; split
          · exact cpP_mono _ _ _
          · exact rf
        · unfold cpRs; split
          · exact cpP_mono _ _ _
          · exact rf
theorem cpBk_mono (a : Bool) (S : TS) (cp : Nat → Nat) (o : Nat) (par : Option Nat) : kC (cpBk a S cp o par) ≤ kC cp ∧ kS (cpBk a S cp o par) ≤ kS cp := by
  have rf : kC cp ≤ kC cp ∧ kS cp ≤ kS cp := ⟨Nat.le_refl _, Nat.le_refl _⟩
  unfold cpBk
  split
  · cases par with
    | none => exact rf
    | some p => exact cpP_mono _ _ _
  · exact rf
theorem cpP_CP {M : Mem} {pa li : Nat → Nat} {S S2 : TS} {cp : Nat → Nat} {p : Nat} (hP : PA M pa li S cp) (h : CPok cp) (hp : p ≤ 40) (hn : (ki S2 p).length ≤ 39) (hle : (ki S2 p).length ≤ (ki S p).length) : CPok (cpP cp S2 p) := (cpP_ok h hp hn (Nat.le_trans hle (hP.le hp))).1
theorem tk_le {S : TS} (h : WF S) (o p : Nat) : (ki (tk S o) p).length ≤ (ki S p).length := by
  cases hp : pr S o with
  | none => rw [tk_none hp]; exact Nat.le_refl _
  | some q =>
    rw [tk_ki h hp]
    split
    · next hq => rw [hq, List.length_erase]; split <;> omega
    · exact Nat.le_refl _
theorem cpGo_CP {M : Mem} {pa li : Nat → Nat} {S : TS} {cp : Nat → Nat} (hP : PA M pa li S cp) (hW : WF S) (h : CPok cp) {u : Bool} {r : RowT} (hr : rOk r) : CPok (cpGo u S cp r) := by
  unfold cpGo
  split
  · exact h
  · unfold cpR
    split
    · exact cpP_CP hP h (by omega) (hW.klen 40) (Nat.le_refl _)
    · split
      · next hs =>
        obtain ⟨q, hq, hq40⟩ := hr.2.2.2.1 hs
        rw [hq]
        unfold cpMv; split
        · exact cpP_CP hP h (by show q ≤ 40; omega) (tk_len hW _ _) (tk_le hW _ _)
        · exact h
      · split
        · unfold cpRm; split
          · exact cpP_CP hP h (by omega) (tk_len hW _ _) (tk_le hW _ _)
          · exact h
        · unfold cpRs; split
          · next hc =>
            have := hW.lt (dm_iff.mp hc.2.2).2.1
            exact cpP_CP hP h (by omega) (tk_len hW _ _) (tk_le hW _ _)
          · exact h
theorem cpBk_CP {M : Mem} {pa li : Nat → Nat} {S : TS} {cp : Nat → Nat} (hP : PA M pa li S cp) (hW : WF S) (h : CPok cp) {a : Bool} {o : Nat} {par : Option Nat} (hp : ∀ x, par = some x → x ≤ 40) : CPok (cpBk a S cp o par) := by
  unfold cpBk
  split
  · cases par with
    | none => exact h
    | some p => exact cpP_CP hP h (hp p rfl) (tk_len hW _ _) (tk_le hW _ _)
  · exact h
/-- the rows l taken back, the last first; S: the tree before them -/
noncomputable def bkL (R : Nat → RowT) (U : Nat → Bool) (S : TS) : List Nat → (Nat → Nat) → (Nat → Nat)
  | [], cp => cp
  | i :: l, cp => cpBk (gR (U i) S (R i)).2 (gR (U i) S (R i)).1 (bkL R U (gR (U i) S (R i)).1 l cp) (rO (R i)) (pr S (rO (R i)))
/-- the rows l done -/
noncomputable def goL (R : Nat → RowT) (U : Nat → Bool) (S : TS) : List Nat → (Nat → Nat) → (Nat → Nat)
  | [], cp => cp
  | i :: l, cp => goL R U (gR (U i) S (R i)).1 l (cpGo (U i) S cp (R i))
theorem bkL_app (R : Nat → RowT) (U : Nat → Bool) (S : TS) (l1 l2 : List Nat) (cp : Nat → Nat) : bkL R U S (l1 ++ l2) cp = bkL R U S l1 (bkL R U (rn R U S l1) l2 cp) := by
  induction l1 generalizing S with
  | nil => rfl
  | cons a l ih =>
    show cpBk _ _ (bkL R U _ (l ++ l2) cp) _ _ = cpBk _ _ (bkL R U _ l _) _ _
    rw [ih]
    rfl
theorem goL_app (R : Nat → RowT) (U : Nat → Bool) (S : TS) (l1 l2 : List Nat) (cp : Nat → Nat) : goL R U S (l1 ++ l2) cp = goL R U (rn R U S l1) l2 (goL R U S l1 cp) := by
  induction l1 generalizing S cp with
  | nil => rfl
  | cons a l ih => exact ih _ _
theorem bkL_mono (R : Nat → RowT) (U : Nat → Bool) (S : TS) (l : List Nat) (cp : Nat → Nat) : kC (bkL R U S l cp) ≤ kC cp ∧ kS (bkL R U S l cp) ≤ kS cp := by
  induction l generalizing S with
  | nil => exact ⟨Nat.le_refl _, Nat.le_refl _⟩
  | cons a l ih =>
    have h1 := ih (gR (U a) S (R a)).1
    have h2 := cpBk_mono (gR (U a) S (R a)).2 (gR (U a) S (R a)).1 (bkL R U (gR (U a) S (R a)).1 l cp) (rO (R a)) (pr S (rO (R a)))
    exact ⟨Nat.le_trans h2.1 h1.1, Nat.le_trans h2.2 h1.2⟩
theorem goL_mono (R : Nat → RowT) (U : Nat → Bool) (S : TS) (l : List Nat) (cp : Nat → Nat) : kC (goL R U S l cp) ≤ kC cp ∧ kS (goL R U S l cp) ≤ kS cp := by
  induction l generalizing S cp with
  | nil => exact ⟨Nat.le_refl _, Nat.le_refl _⟩
  | cons a l ih =>
    have h1 := ih (gR (U a) S (R a)).1 (cpGo (U a) S cp (R a))
    have h2 := cpGo_mono (U a) S cp (R a)
    exact ⟨Nat.le_trans h1.1 h2.1, Nat.le_trans h1.2 h2.2⟩
/-- the capacity of a list that n elements came to, one by one -/
def capL : Nat → Nat
  | 0 => 0
  | n + 1 => gcap n (capL n)
theorem capL_le : ∀ n, n ≤ capL n
  | 0 => Nat.le_refl _
  | n + 1 => by
    show n + 1 ≤ gcap n (capL n)
    have h := capL_le n
    unfold gcap
    split
    · omega
    · have := ncap_gt (capL n); omega
theorem capL_lt : ∀ n, n < 302 → capL n < 1000 := by decide +kernel
theorem go_back {S : TS} (hW : WF S) {u : Bool} {r : RowT} (hr : okR S r) : (if (gR u S r).2 = true then bkS (gR u S r).1 (rO r) (pr S (rO r)) (las S (rO r)) (atK S (rO r)) else (gR u S r).1) = S := by
  by_cases ha : (gR u S r).2 = true
  · rw [if_pos ha]
    unfold gR at ha ⊢
    split at ha
    · cases ha
    · next hu => rw [if_neg hu]; exact bk_ok hW hr ha
  · rw [if_neg ha]
    unfold gR at ha ⊢
    split at ha
    · next hu => rw [if_pos hu]
    · next hu =>
      rw [if_neg hu]
      rcases (show rS r = 0 ∨ rS r = 1 ∨ rS r = 2 ∨ 3 ≤ rS r by omega) with hs | hs | hs | hs
      · rw [doRow_0 hs] at ha; exact absurd rfl ha
      · rw [doRow_1 hs] at ha ⊢
        unfold dMove at ha ⊢
        split at ha
        · exact absurd rfl ha
        · next hc => rw [if_neg hc]
      · rw [doRow_2 hs] at ha ⊢
        unfold dRem at ha ⊢
        split at ha
        · exact absurd rfl ha
        · next hc => rw [if_neg hc]
      · rw [doRow_3 hs] at ha ⊢
        unfold dRes at ha ⊢
        split at ha
        · exact absurd rfl ha
        · next hc => rw [if_neg hc]
/-- where it was, when it was put elsewhere -/
theorem at_ok {S : TS} (hW : WF S) {u : Bool} {r : RowT} (hr : okR S r) (ha : (gR u S r).2 = true) {x : Nat} (hx : pr S (rO r) = some x) : x ≤ 40 ∧ atK S (rO r) ≤ (ki (tk (gR u S r).1 (rO r)) x).length := by
  have hth := (hW.ch hx).1
  refine ⟨(hW.ple hx).1, ?_⟩
  have hmem := hW.kp.mp hx
  have hat : atK S (rO r) = (ki S x).idxOf (rO r) := by unfold atK; rw [hx]
  have hix : (ki S x).idxOf (rO r) < (ki S x).length := List.idxOf_lt_length_of_mem hmem
  have htk : (ki (tk S (rO r)) x).length = (ki S x).length - 1 := by rw [tk_ki hW hx, if_pos rfl, List.length_erase, if_pos hmem]
  have gen : ∀ (p k : Nat) (q : Option Nat), k ≤ (ki (tk S (rO r)) p).length → ki (tk (sl (pt (tk S (rO r)) (rO r) p k) (rO r) q) (rO r)) = ki (tk S (rO r)) := by
    intro p k q hk
    have e2 := tk_pt (tk_out hW (rO r) p) (by rw [tk_pr, va_up_self]) hk
    have e3 : pr (pt (tk S (rO r)) (rO r) p k) (rO r) = some p := va_up_self _ _ _
    have e4 : pr (sl (pt (tk S (rO r)) (rO r) p k) (rO r) q) (rO r) = some p := e3
    rw [tk_some e4]
    rw [tk_some e3] at e2
    have f4 := congrArg ki e2
    exact f4
  have idl : ∀ T : TS, sl T (rO r) (las T (rO r)) = T := fun T => ts_ext rfl rfl (va_up_id _ rfl) rfl
  have fin : ki (tk (gR u S r).1 (rO r)) = ki (tk S (rO r)) := by
    unfold gR at ha ⊢
    split at ha
    · cases ha
    · next hu =>
      rw [if_neg hu]
      rcases (show rS r = 0 ∨ rS r = 1 ∨ rS r = 2 ∨ 3 ≤ rS r by omega) with hs | hs | hs | hs
      · rw [hr.2.2 hs] at hth; cases hth
      · rw [doRow_1 hs] at ha ⊢
        unfold dMove at ha ⊢
        split at ha
        · next hc => rw [if_pos hc]; exact gen _ _ _ (mvK_le _ _ _)
        · cases ha
      · rw [doRow_2 hs] at ha ⊢
        unfold dRem at ha ⊢
        split at ha
        · next hc =>
          rw [if_pos hc]
          have := gen 40 _ (las (pt (tk S (rO r)) (rO r) 40 (ki (tk S (rO r)) 40).length) (rO r)) (Nat.le_refl _)
          rw [idl] at this
          exact this
        · cases ha
      · rw [doRow_3 hs] at ha ⊢
        unfold dRes at ha ⊢
        split at ha
        · next hc => rw [if_pos hc]; exact gen _ _ _ (Nat.le_refl _)
        · cases ha
  rw [fin, hat, htk]
  omega
