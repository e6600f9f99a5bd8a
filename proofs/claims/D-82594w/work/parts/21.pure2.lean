/-! ROWS DONE: sort, node, time, object, to, behind -/
noncomputable def dm (P : Prop) : Bool := @decide P (Classical.propDecidable P)
theorem dm_t {P : Prop} (h : P) : dm P = true := by unfold dm; exact @decide_eq_true P (Classical.propDecidable P) h
theorem dm_f {P : Prop} (h : ¬ P) : dm P = false := by unfold dm; exact @decide_eq_false P (Classical.propDecidable P) h
theorem dm_iff {P : Prop} : dm P = true ↔ P := by unfold dm; simp
abbrev RowT : Type := Nat × Nat × Nat × Nat × Option Nat × Option Nat
def rS (r : RowT) : Nat := r.1
def rW (r : RowT) : Nat := r.2.1
def rT (r : RowT) : Nat := r.2.2.1
def rO (r : RowT) : Nat := r.2.2.2.1
def rP (r : RowT) : Option Nat := r.2.2.2.2.1
def rB (r : RowT) : Option Nat := r.2.2.2.2.2
/-- o may go below p -/
def mG (S : TS) (o p : Nat) : Prop := th S o = true ∧ th S p = true ∧ (∀ k, anc S k p ≠ some o) ∧ ∃ d, anc S d p = some 0 ∧ ∀ k x, anc S k x = some o → d + 1 + k ≤ 8
/-- where: behind b if b is a child of p -/
def mvK (S : TS) (b : Option Nat) (p : Nat) : Nat := match b with
  | none => 0
  | some q => if q ∈ ki S p then (ki S p).idxOf q + 1 else 0
noncomputable def dMove (S : TS) (o p : Nat) (b : Option Nat) : TS × Bool := if dm (mG S o p) = true then (sl (pt (tk S o) o p (mvK (tk S o) b p)) o (some p), true) else (S, false)
def dRem (S : TS) (o : Nat) : TS × Bool := if th S o = true ∧ pr S o ≠ some 40 then (pt (tk S o) o 40 (ki (tk S o) 40).length, true) else (S, false)
noncomputable def resP (S : TS) (o : Nat) : Nat := match las S o with
  | none => 0
  | some q => if dm (mG S o q) = true then q else 0
noncomputable def dRes (S : TS) (o : Nat) : TS × Bool := if th S o = true ∧ pr S o = some 40 ∧ dm (mG S o (resP S o)) = true then (sl (pt (tk S o) o (resP S o) (ki (tk S o) (resP S o)).length) o (some (resP S o)), true) else (S, false)
def dMake (S : TS) (o : Nat) : TS × Bool := (sl (pt (sth S o true) o 40 (ki S 40).length) o (some 0), true)
noncomputable def doRow (S : TS) (r : RowT) : TS × Bool := match rS r with
  | 0 => dMake S (rO r)
  | 1 => dMove S (rO r) ((rP r).getD 0) (rB r)
  | 2 => dRem S (rO r)
  | _ => dRes S (rO r)
theorem doRow_0 {S : TS} {r : RowT} (h : rS r = 0) : doRow S r = dMake S (rO r) := by unfold doRow; rw [h]; rfl
theorem doRow_1 {S : TS} {r : RowT} (h : rS r = 1) : doRow S r = dMove S (rO r) ((rP r).getD 0) (rB r) := by unfold doRow; rw [h]; rfl
theorem doRow_2 {S : TS} {r : RowT} (h : rS r = 2) : doRow S r = dRem S (rO r) := by unfold doRow; rw [h]; rfl
theorem doRow_3 {S : TS} {r : RowT} (h : 3 ≤ rS r) : doRow S r = dRes S (rO r) := by
  unfold doRow
  split
  · omega
  · omega
  · omega
  · rfl
theorem mvK_le (S : TS) (b : Option Nat) (p : Nat) : mvK S b p ≤ (ki S p).length := by
  unfold mvK
  split
  · omega
  · next q =>
    split
    · next h => exact List.idxOf_lt_length_of_mem h
    · omega
theorem WF.slw {S : TS} (h : WF S) {o q : Nat} (hq : q < 40) : WF (sl S o (some q)) := by
  refine ⟨h.1, h.2.1, h.2.2.1, h.2.2.2.1, h.2.2.2.2.1, h.2.2.2.2.2.1, fun x hx => ?_, fun x z hx => ?_, fun x hx h0 => ?_⟩
  · obtain ⟨d, t, h1, h2, h3⟩ := h.dp hx
    exact ⟨d, t, h1, h2, by rw [← h3]; exact anc_off (S := S) (T := sl S o (some q)) (o := 41) (fun _ _ => rfl) d x (fun j _ z => by
      have := h.anc_le40 (by have := h.lt hx; omega) z
      omega)⟩
  · have hx : va_up (las S) o (some q) x = some z := hx
    by_cases hxo : x = o
    · rw [hxo, va_up_self] at hx; cases hx; exact hq
    · rw [va_up_ne _ _ hxo] at hx; exact h.ls hx
  · show ∃ z, va_up (las S) o (some q) x = some z
    by_cases hxo : x = o
    · rw [hxo, va_up_self]; exact ⟨_, rfl⟩
    · rw [va_up_ne _ _ hxo]; exact h.lp hx h0
/-- taken out and put in elsewhere -/
theorem WF.mv {S : TS} (h : WF S) {o p j d t : Nat} (ho : th S o = true) (h0 : o ≠ 0) (hp : p = 40 ∨ th S p = true) (hw : ∀ k, anc S k p ≠ some o) (ht : t = 0 ∨ t = 40) (hd : anc S d p = some t) (hb : ∀ k x, anc S k x = some o → d + 1 + k ≤ 8) (hj : j ≤ (ki (tk S o) p).length) : WF (pt (tk S o) o p j) := by
  have hpr : ∀ x, pr (pt (tk S o) o p j) x = if x = o then some p else pr S x := by
    intro x
    show va_up (pr (tk S o)) o (some p) x = _
    rw [tk_pr, bx_uu]
    by_cases hx : x = o
    · rw [if_pos hx, hx, va_up_self]
    · rw [if_neg hx, va_up_ne _ _ hx]
  have hki : ∀ x, ki (pt (tk S o) o p j) x = if x = p then (ki (tk S o) p).insertIdx j o else ki (tk S o) x := by
    intro x
    show va_up (ki (tk S o)) p _ x = _
    by_cases hx : x = p
    · rw [if_pos hx, hx, va_up_self]
    · rw [if_neg hx, va_up_ne _ _ hx]
  have hth : th (pt (tk S o) o p j) = th S := tk_th S o
  have hla : las (pt (tk S o) o p j) = las S := tk_las S o
  have hoff : ∀ x, x ≠ o → pr (pt (tk S o) o p j) x = pr S x := fun x hx => by rw [hpr, if_neg hx]
  refine ⟨fun x hx => ?_, fun x q => ?_, fun q => ?_, fun x q hx => ?_, fun x hx hx0 => ?_, ?_, fun x hx => ?_, fun x q hx => ?_, fun x hx hx0 => ?_⟩
  · rw [hth] at hx; exact h.lt hx
  · rw [hpr, hki]
    by_cases hq : q = p
    · subst hq
      rw [if_pos rfl, ins_mem hj, tk_mem h]
      by_cases hx : x = o
      · rw [if_pos hx]
        exact ⟨fun _ => Or.inl hx, fun _ => rfl⟩
      · rw [if_neg hx, h.kp]
        exact ⟨fun z => Or.inr ⟨z, hx⟩, fun z => by rcases z with z | z; exact absurd z hx; exact z.1⟩
    · rw [if_neg hq, tk_mem h]
      by_cases hx : x = o
      · rw [if_pos hx]
        exact ⟨fun z => absurd (Option.some.inj z).symm hq, fun z => absurd hx z.2⟩
      · rw [if_neg hx, h.kp]
        exact ⟨fun z => ⟨z, hx⟩, fun z => z.1⟩
  · rw [hki]
    split
    · exact ins_nd hj (tk_nd h o p) (tk_out h o p)
    · exact tk_nd h o q
  · rw [hpr] at hx
    rw [hth]
    by_cases hxo : x = o
    · rw [if_pos hxo] at hx
      cases hx
      rw [hxo]
      exact ⟨ho, h0, hp⟩
    · rw [if_neg hxo] at hx
      exact h.ch hx
  · rw [hth] at hx
    rw [hpr]
    by_cases hxo : x = o
    · rw [if_pos hxo]; exact ⟨p, rfl⟩
    · rw [if_neg hxo]; exact h.par hx hx0
  · rw [hth]; exact h.r0
  · rw [hth] at hx
    by_cases hex : ∃ k, anc S k x = some o
    · obtain ⟨k, hk, hmin⟩ := pk_least (fun k => anc S k x = some o) hex
      have e1 : anc (pt (tk S o) o p j) k x = some o := by
        rw [anc_off (S := S) (o := o) hoff k x (fun i hi z => hmin i hi z)]; exact hk
      have e2 : anc (pt (tk S o) o p j) (k + 1) x = some p := anc_last e1 (by rw [hpr, if_pos rfl])
      have e3 : anc (pt (tk S o) o p j) d p = some t := by
        rw [anc_off (S := S) (o := o) hoff d p (fun i _ => hw i)]; exact hd
      refine ⟨k + 1 + d, t, by have := hb k x hk; omega, ht, ?_⟩
      rw [anc_add, e2]
      exact e3
    · obtain ⟨d2, t2, a1, a2, a3⟩ := h.dp hx
      refine ⟨d2, t2, a1, a2, ?_⟩
      rw [anc_off (S := S) (o := o) hoff d2 x (fun i _ z => hex ⟨i, z⟩)]; exact a3
  · rw [hla] at hx; exact h.ls hx
  · rw [hth] at hx
    rw [hla]; exact h.lp hx hx0
theorem WF.make {S : TS} (h : WF S) {o : Nat} (ho : th S o = false) (h0 : 0 < o) (hlt : o < 40) : WF (dMake S o).1 := by
  have hno : pr S o = none := by
    cases hp : pr S o with
    | none => rfl
    | some p => rw [(h.ch hp).1] at ho; cases ho
  have hmem : ∀ p, o ∉ ki S p := fun p z => by
    have := h.kp.mpr z
    rw [hno] at this; cases this
  have hpr : ∀ x, pr (dMake S o).1 x = if x = o then some 40 else pr S x := by
    intro x
    show va_up (pr S) o (some 40) x = _
    by_cases hx : x = o
    · rw [if_pos hx, hx, va_up_self]
    · rw [if_neg hx, va_up_ne _ _ hx]
  have hki : ∀ x, ki (dMake S o).1 x = if x = 40 then (ki S 40).insertIdx (ki S 40).length o else ki S x := by
    intro x
    show va_up (ki S) 40 _ x = _
    by_cases hx : x = 40
    · rw [if_pos hx, hx, va_up_self]; rfl
    · rw [if_neg hx, va_up_ne _ _ hx]
  have hth : ∀ x, th (dMake S o).1 x = if x = o then true else th S x := by
    intro x
    show va_up (th S) o true x = _
    by_cases hx : x = o
    · rw [if_pos hx, hx, va_up_self]
    · rw [if_neg hx, va_up_ne _ _ hx]
  have hla : ∀ x, las (dMake S o).1 x = if x = o then some 0 else las S x := by
    intro x
    show va_up (las S) o (some 0) x = _
    by_cases hx : x = o
    · rw [if_pos hx, hx, va_up_self]
    · rw [if_neg hx, va_up_ne _ _ hx]
  refine ⟨fun x hx => ?_, fun x q => ?_, fun q => ?_, fun x q hx => ?_, fun x hx hx0 => ?_, ?_, fun x hx => ?_, fun x q hx => ?_, fun x hx hx0 => ?_⟩
  · rw [hth] at hx
    split at hx
    · omega
    · exact h.lt hx
  · rw [hpr, hki]
    by_cases hx : x = o
    · subst hx
      rw [if_pos rfl]
      split
      · next hq => rw [hq, ins_mem (Nat.le_refl _)]; exact ⟨fun _ => Or.inl rfl, fun _ => rfl⟩
      · next hq => exact ⟨fun z => absurd (Option.some.inj z).symm hq, fun z => absurd z (hmem q)⟩
    · rw [if_neg hx]
      split
      · next hq =>
        rw [hq, ins_mem (Nat.le_refl _), h.kp]
        exact ⟨fun z => Or.inr z, fun z => by rcases z with z | z; exact absurd z hx; exact z⟩
      · exact h.kp
  · rw [hki]
    split
    · exact ins_nd (Nat.le_refl _) (h.nd 40) (hmem 40)
    · exact h.nd q
  · rw [hpr] at hx
    by_cases hxo : x = o
    · rw [if_pos hxo] at hx
      cases hx
      rw [hth, if_pos hxo]
      exact ⟨rfl, by omega, Or.inl rfl⟩
    · rw [if_neg hxo] at hx
      obtain ⟨a1, a2, a3⟩ := h.ch hx
      rw [hth, if_neg hxo, hth]
      refine ⟨a1, a2, ?_⟩
      rcases a3 with a3 | a3
      · exact Or.inl a3
      · right
        split
        · rfl
        · exact a3
  · rw [hpr]
    by_cases hxo : x = o
    · rw [if_pos hxo]; exact ⟨40, rfl⟩
    · rw [if_neg hxo]
      rw [hth, if_neg hxo] at hx
      exact h.par hx hx0
  · rw [hth, if_neg (by omega)]; exact h.r0
  · by_cases hxo : x = o
    · refine ⟨1, 40, by omega, Or.inr rfl, ?_⟩
      rw [anc_one, hpr, if_pos hxo]
    · rw [hth, if_neg hxo] at hx
      obtain ⟨d, t, a1, a2, a3⟩ := h.dp hx
      refine ⟨d, t, a1, a2, ?_⟩
      rw [anc_off (S := S) (o := o) (fun y hy => by rw [hpr, if_neg hy]) d x (fun i hi z => ?_)]
      · exact a3
      · have h1 := anc_over z hno hi
        rw [a3] at h1
        cases h1
  · rw [hla] at hx
    split at hx
    · cases hx; omega
    · exact h.ls hx
  · rw [hla]
    by_cases hxo : x = o
    · rw [if_pos hxo]; exact ⟨0, rfl⟩
    · rw [if_neg hxo]
      rw [hth, if_neg hxo] at hx
      exact h.lp hx hx0
/-- a row that may be done on S: what it makes is not there, what it names is an object but the root -/
def okR (S : TS) (r : RowT) : Prop := 0 < rO r ∧ rO r < 40 ∧ (rS r = 0 → th S (rO r) = false)
theorem WF.o40 {S : TS} (h : WF S) {o : Nat} (ho : th S o = true) (h0 : o ≠ 0) : (∀ k, anc S k 40 ≠ some o) ∧ ∀ k x, anc S k x = some o → 0 + 1 + k ≤ 8 := by
  refine ⟨fun k z => ?_, fun k x hk => ?_⟩
  · cases k with
    | zero => cases z; exact absurd (h.lt ho) (by omega)
    | succ k => rw [anc_n h.p40] at z; cases z
  · obtain ⟨d, t, a1, a2, a3⟩ := h.dp (h.anc_th ho hk)
    obtain ⟨p, hp⟩ := h.par ho h0
    have := anc_le a3 (h.tn a2) (anc_last hk hp)
    omega
theorem WF.row {S : TS} (h : WF S) {r : RowT} (hr : okR S r) : WF (doRow S r).1 := by
  obtain ⟨h1, h2, h3⟩ := hr
  unfold doRow
  split
  · next hs => exact h.make (h3 hs) h1 h2
  · unfold dMove
    split
    · next hm =>
      obtain ⟨a1, a2, a3, d, a4, a5⟩ := dm_iff.mp hm
      exact (h.mv a1 (by omega) (Or.inr a2) a3 (Or.inl rfl) a4 a5 (mvK_le _ _ _)).slw (h.lt a2)
    · exact h
  · unfold dRem
    split
    · next hm =>
      have := h.o40 hm.1 (by omega)
      exact h.mv hm.1 (by omega) (Or.inl rfl) this.1 (Or.inr rfl) (anc_0 S 40) this.2 (Nat.le_refl _)
    · exact h
  · unfold dRes
    split
    · next hm =>
      obtain ⟨a1, a2, a3, d, a4, a5⟩ := dm_iff.mp hm.2.2
      exact (h.mv a1 (by omega) (Or.inr a2) a3 (Or.inl rfl) a4 a5 (Nat.le_refl _)).slw (h.lt a2)
    · exact h
/-! taken back -/
def bkS (S : TS) (o : Nat) (par lst : Option Nat) (at_ : Nat) : TS := match par with
  | some p => pt (sl (tk S o) o lst) o p at_
  | none => sth (sl (tk S o) o lst) o (decide (o = 0))
def atK (S : TS) (o : Nat) : Nat := match pr S o with
  | none => 0
  | some p => (ki S p).idxOf o
theorem bk_ok {S : TS} (h : WF S) {r : RowT} (hr : okR S r) (ha : (doRow S r).2 = true) : bkS (doRow S r).1 (rO r) (pr S (rO r)) (las S (rO r)) (atK S (rO r)) = S := by
  obtain ⟨h1, h2, h3⟩ := hr
  have gen : ∀ (p k : Nat) (q : Option Nat), th S (rO r) = true → k ≤ (ki (tk S (rO r)) p).length → bkS (sl (pt (tk S (rO r)) (rO r) p k) (rO r) q) (rO r) (pr S (rO r)) (las S (rO r)) (atK S (rO r)) = S := by
    intro p k q ht hk
    obtain ⟨p0, hp0⟩ := h.par ht (by omega)
    have e1 : tk (sl (pt (tk S (rO r)) (rO r) p k) (rO r) q) (rO r) = sl (tk S (rO r)) (rO r) q := by
      have e2 := tk_pt (tk_out h (rO r) p) (by rw [tk_pr, va_up_self]) hk
      have e3 : pr (pt (tk S (rO r)) (rO r) p k) (rO r) = some p := va_up_self _ _ _
      have e4 : pr (sl (pt (tk S (rO r)) (rO r) p k) (rO r) q) (rO r) = some p := e3
      rw [tk_some e4]
      rw [tk_some e3] at e2
      have f1 := congrArg th e2
      have f2 := congrArg pr e2
      have f4 := congrArg ki e2
      exact ts_ext f1 f2 rfl f4
    unfold bkS
    rw [hp0]
    dsimp only
    rw [e1]
    have e5 : sl (sl (tk S (rO r)) (rO r) q) (rO r) (las S (rO r)) = tk S (rO r) := by
      refine ts_ext rfl rfl ?_ rfl
      show va_up (va_up (las (tk S (rO r))) (rO r) q) (rO r) _ = las (tk S (rO r))
      rw [bx_uu, tk_las, va_up_id _ rfl]
    rw [e5]
    unfold atK
    rw [hp0]
    exact pt_tk hp0 (h.kp.mp hp0)
  have idl : ∀ T : TS, sl T (rO r) (las T (rO r)) = T := fun T => ts_ext rfl rfl (va_up_id _ rfl) rfl
  rcases (show rS r = 0 ∨ rS r = 1 ∨ rS r = 2 ∨ 3 ≤ rS r by omega) with hs | hs | hs | hs
  · rw [doRow_0 hs]
    have ho := h3 hs
    have hno : pr S (rO r) = none := by
      cases hp : pr S (rO r) with
      | none => rfl
      | some p => rw [(h.ch hp).1] at ho; cases ho
    have hmem : ∀ p, rO r ∉ ki S p := fun p z => by
      have := h.kp.mpr z
      rw [hno] at this; cases this
    unfold bkS
    rw [hno]
    dsimp only
    show sth (sl (tk (sl (pt (sth S (rO r) true) (rO r) 40 (ki S 40).length) (rO r) (some 0)) (rO r)) (rO r) (las S (rO r))) (rO r) (decide (rO r = 0)) = S
    have e4 : pr (sl (pt (sth S (rO r) true) (rO r) 40 (ki S 40).length) (rO r) (some 0)) (rO r) = some 40 := va_up_self _ _ _
    rw [tk_some e4, decide_eq_false (by omega)]
    refine ts_ext ?_ ?_ ?_ ?_
    · show va_up (va_up (th S) (rO r) true) (rO r) false = th S
      rw [bx_uu, va_up_id _ ho]
    · show va_up (va_up (pr S) (rO r) (some 40)) (rO r) none = pr S
      rw [bx_uu, va_up_id _ hno]
    · show va_up (va_up (las S) (rO r) (some 0)) (rO r) _ = las S
      rw [bx_uu, va_up_id _ rfl]
    · show va_up (va_up (ki S) 40 ((ki S 40).insertIdx (ki S 40).length (rO r))) 40 ((va_up (ki S) 40 ((ki S 40).insertIdx (ki S 40).length (rO r)) 40).erase (rO r)) = ki S
      rw [bx_uu, va_up_self, ins_erase (hmem 40) (Nat.le_refl _), va_up_id _ rfl]
  · rw [doRow_1 hs] at ha ⊢
    unfold dMove at ha ⊢
    split at ha
    · next hm =>
      rw [if_pos hm]
      exact gen _ _ _ (dm_iff.mp hm).1 (mvK_le _ _ _)
    · cases ha
  · rw [doRow_2 hs] at ha ⊢
    unfold dRem at ha ⊢
    split at ha
    · next hm =>
      rw [if_pos hm]
      have := gen 40 _ (las (pt (tk S (rO r)) (rO r) 40 (ki (tk S (rO r)) 40).length) (rO r)) hm.1 (Nat.le_refl _)
      rw [idl] at this
      exact this
    · cases ha
  · rw [doRow_3 hs] at ha ⊢
    unfold dRes at ha ⊢
    split at ha
    · next hm =>
      rw [if_pos hm]
      exact gen _ _ _ hm.1 (Nat.le_refl _)
    · cases ha
theorem WF.s0 : WF tS0 := by
  refine ⟨fun o h => ?_, fun o p => ?_, fun p => List.nodup_nil, fun o p h => (by cases h), fun o h h0 => ?_, rfl, fun o h => ?_, fun o q h => (by cases h), fun o h h0 => ?_⟩
  · have : o = 0 := by simpa [tS0, th] using h
    omega
  · simp [tS0, pr, ki]
  · exact absurd (by simpa [tS0, th] using h) h0
  · exact ⟨0, 0, by omega, Or.inl rfl, by
      have : o = 0 := by simpa [tS0, th] using h
      rw [this]; rfl⟩
  · exact absurd (by simpa [tS0, th] using h) h0
