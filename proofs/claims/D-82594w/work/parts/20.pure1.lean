/-! THE TREE, pure: there, parent, last, children; 40 is the bin -/
abbrev TS : Type := (Nat → Bool) × (Nat → Option Nat) × (Nat → Option Nat) × (Nat → List Nat)
def th (S : TS) : Nat → Bool := S.1
def pr (S : TS) : Nat → Option Nat := S.2.1
def las (S : TS) : Nat → Option Nat := S.2.2.1
def ki (S : TS) : Nat → List Nat := S.2.2.2
theorem ts_ext {S T : TS} (h1 : th S = th T) (h2 : pr S = pr T) (h3 : las S = las T) (h4 : ki S = ki T) : S = T := by
  obtain ⟨a1, a2, a3, a4⟩ := S
  obtain ⟨b1, b2, b3, b4⟩ := T
  simp only [th, pr, las, ki] at *
  subst h1 h2 h3 h4
  rfl
def tS0 : TS := (fun o => decide (o = 0), fun _ => none, fun _ => none, fun _ => [])
/-- the k-th above o -/
def anc (S : TS) : Nat → Nat → Option Nat
  | 0, o => some o
  | k + 1, o => match pr S o with
    | none => none
    | some p => anc S k p
theorem anc_0 (S : TS) (o : Nat) : anc S 0 o = some o := rfl
theorem anc_s {S : TS} {o p : Nat} (h : pr S o = some p) (k : Nat) : anc S (k + 1) o = anc S k p := by simp only [anc, h]
theorem anc_n {S : TS} {o : Nat} (h : pr S o = none) (k : Nat) : anc S (k + 1) o = none := by simp only [anc, h]
theorem anc_add (S : TS) (j k o : Nat) : anc S (j + k) o = (anc S j o).bind (anc S k) := by
  induction j generalizing o with
  | zero => simp [anc]
  | succ j ih =>
    rw [Nat.add_right_comm]
    cases h : pr S o with
    | none => rw [anc_n h, anc_n h]; rfl
    | some p => rw [anc_s h, anc_s h, ih]
theorem anc_one {S : TS} {o : Nat} : anc S 1 o = pr S o := by
  cases h : pr S o with
  | none => rw [anc_n h]
  | some p => rw [anc_s h]; rfl
theorem anc_last {S : TS} {k o p q : Nat} (h : anc S k o = some p) (hp : pr S p = some q) : anc S (k + 1) o = some q := by
  rw [anc_add, h]
  show anc S 1 p = _
  rw [anc_one, hp]
theorem anc_over {S : TS} {d o t : Nat} (h : anc S d o = some t) (ht : pr S t = none) {k : Nat} (hk : d < k) : anc S k o = none := by
  obtain ⟨j, rfl⟩ : ∃ j, k = d + (j + 1) := ⟨k - d - 1, by omega⟩
  rw [anc_add, h]
  exact anc_n ht j
theorem anc_le {S : TS} {d o t k x : Nat} (h : anc S d o = some t) (ht : pr S t = none) (hk : anc S k o = some x) : k ≤ d := by
  rcases Nat.lt_or_ge d k with q | q
  · rw [anc_over h ht q] at hk; cases hk
  · exact q
theorem anc_uni {S : TS} {d d2 o t t2 : Nat} (h : anc S d o = some t) (ht : pr S t = none) (h2 : anc S d2 o = some t2) (ht2 : pr S t2 = none) : d = d2 ∧ t = t2 := by
  have a := anc_le h ht h2
  have b := anc_le h2 ht2 h
  have : d = d2 := by omega
  subst this
  exact ⟨rfl, Option.some.inj (h.symm.trans h2)⟩
/-- a chain that does not meet o is not changed by what o's parent is -/
theorem anc_off {S T : TS} {o : Nat} (hp : ∀ x, x ≠ o → pr T x = pr S x) : ∀ (k x : Nat), (∀ j, j < k → anc S j x ≠ some o) → anc T k x = anc S k x := by
  intro k
  induction k with
  | zero => intro x _; rfl
  | succ k ih =>
    intro x hx
    have hxo : x ≠ o := fun z => hx 0 (by omega) (by rw [z]; rfl)
    cases h : pr S x with
    | none => rw [anc_n h, anc_n (by rw [hp x hxo]; exact h)]
    | some p =>
      rw [anc_s h, anc_s (by rw [hp x hxo]; exact h)]
      exact ih p fun j hj z => hx (j + 1) (by omega) (by rw [anc_s h]; exact z)
/-- a tree as it should be -/
def WF (S : TS) : Prop :=
  (∀ o, th S o = true → o < 40) ∧ (∀ o p, pr S o = some p ↔ o ∈ ki S p) ∧ (∀ p, (ki S p).Nodup) ∧ (∀ o p, pr S o = some p → th S o = true ∧ o ≠ 0 ∧ (p = 40 ∨ th S p = true)) ∧
  (∀ o, th S o = true → o ≠ 0 → ∃ p, pr S o = some p) ∧ th S 0 = true ∧ (∀ o, th S o = true → ∃ d t, d ≤ 8 ∧ (t = 0 ∨ t = 40) ∧ anc S d o = some t) ∧
  (∀ o q, las S o = some q → q < 40) ∧ (∀ o, th S o = true → o ≠ 0 → ∃ q, las S o = some q)
theorem WF.lt {S : TS} (h : WF S) {o : Nat} (ho : th S o = true) : o < 40 := h.1 o ho
theorem WF.kp {S : TS} (h : WF S) {o p : Nat} : pr S o = some p ↔ o ∈ ki S p := h.2.1 o p
theorem WF.nd {S : TS} (h : WF S) (p : Nat) : (ki S p).Nodup := h.2.2.1 p
theorem WF.ch {S : TS} (h : WF S) {o p : Nat} (ho : pr S o = some p) : th S o = true ∧ o ≠ 0 ∧ (p = 40 ∨ th S p = true) := h.2.2.2.1 o p ho
theorem WF.par {S : TS} (h : WF S) {o : Nat} (ho : th S o = true) (h0 : o ≠ 0) : ∃ p, pr S o = some p := h.2.2.2.2.1 o ho h0
theorem WF.r0 {S : TS} (h : WF S) : th S 0 = true := h.2.2.2.2.2.1
theorem WF.dp {S : TS} (h : WF S) {o : Nat} (ho : th S o = true) : ∃ d t, d ≤ 8 ∧ (t = 0 ∨ t = 40) ∧ anc S d o = some t := h.2.2.2.2.2.2.1 o ho
theorem WF.ls {S : TS} (h : WF S) {o q : Nat} (ho : las S o = some q) : q < 40 := h.2.2.2.2.2.2.2.1 o q ho
theorem WF.lp {S : TS} (h : WF S) {o : Nat} (ho : th S o = true) (h0 : o ≠ 0) : ∃ q, las S o = some q := h.2.2.2.2.2.2.2.2 o ho h0
theorem WF.p0 {S : TS} (h : WF S) : pr S 0 = none := by
  cases hp : pr S 0 with
  | none => rfl
  | some p => exact absurd rfl (h.ch hp).2.1
theorem WF.p40 {S : TS} (h : WF S) : pr S 40 = none := by
  cases hp : pr S 40 with
  | none => rfl
  | some p => exact absurd (h.lt (h.ch hp).1) (by omega)
theorem WF.tn {S : TS} (h : WF S) {t : Nat} (ht : t = 0 ∨ t = 40) : pr S t = none := by
  rcases ht with rfl | rfl
  · exact h.p0
  · exact h.p40
theorem WF.t40 {S : TS} (h : WF S) : th S 40 = false := by
  cases ht : th S 40 with
  | false => rfl
  | true => exact absurd (h.lt ht) (by omega)
theorem WF.ple {S : TS} (h : WF S) {o p : Nat} (ho : pr S o = some p) : p ≤ 40 ∧ o < 40 := by
  obtain ⟨h1, -, h2⟩ := h.ch ho
  refine ⟨?_, h.lt h1⟩
  rcases h2 with h2 | h2
  · omega
  · have := h.lt h2; omega
theorem WF.anc_th {S : TS} (h : WF S) {k x o : Nat} (ho : th S o = true) (ha : anc S k x = some o) : th S x = true := by
  cases k with
  | zero => cases ha; exact ho
  | succ k =>
    cases hp : pr S x with
    | none => rw [anc_n hp] at ha; cases ha
    | some p => exact (h.ch hp).1
theorem WF.anc_le40 {S : TS} (h : WF S) {k x o : Nat} (hx : x ≤ 40) (ha : anc S k x = some o) : o ≤ 40 := by
  induction k generalizing x with
  | zero => cases ha; exact hx
  | succ k ih =>
    cases hp : pr S x with
    | none => rw [anc_n hp] at ha; cases ha
    | some p => rw [anc_s hp] at ha; exact ih (h.ple hp).1 ha
/-- a node is not above itself -/
theorem WF.acyc {S : TS} (h : WF S) {o k : Nat} (ho : th S o = true) (ha : anc S (k + 1) o = some o) : False := by
  obtain ⟨d, t, -, ht, hd⟩ := h.dp ho
  have key : ∀ m, anc S (m * (k + 1)) o = some o := by
    intro m
    induction m with
    | zero => simp [anc]
    | succ m ih => rw [Nat.succ_mul, anc_add, ih]; exact ha
  have h1 := anc_le hd (h.tn ht) (key (d + 1))
  have h2 : d + 1 ≤ (d + 1) * (k + 1) := Nat.le_mul_of_pos_right _ (Nat.succ_pos k)
  omega
theorem WF.klt {S : TS} (h : WF S) {p o : Nat} (ho : o ∈ ki S p) : o < 40 ∧ 0 < o ∧ th S o = true := by
  have h1 := h.kp.mpr ho
  obtain ⟨h2, h3, -⟩ := h.ch h1
  exact ⟨h.lt h2, by omega, h2⟩
theorem nodup_len {l : List Nat} (hn : l.Nodup) {m : Nat} (hl : ∀ x ∈ l, x < m) : l.length ≤ m := by
  induction m generalizing l with
  | zero =>
    cases l with
    | nil => simp
    | cons a l => exact absurd (hl a List.mem_cons_self) (by omega)
  | succ m ih =>
    have h1 := ih (hn.erase m) (fun x hx => by
      have h2 := (List.Nodup.mem_erase_iff hn).mp hx
      have h3 := hl x h2.2
      omega)
    rw [List.length_erase] at h1
    split at h1 <;> omega
/-- at most 39 children -/
theorem WF.klen {S : TS} (h : WF S) (p : Nat) : (ki S p).length ≤ 39 := by
  have hnd := h.nd p
  have h1 : (0 :: ki S p).Nodup := List.nodup_cons.mpr ⟨fun z => absurd (h.klt z).2.1 (by omega), hnd⟩
  have h2 := nodup_len (m := 40) h1 (fun x hx => by
    rcases List.mem_cons.mp hx with rfl | hx
    · omega
    · exact (h.klt hx).1)
  simp at h2
  omega
/-! taking out, putting in -/
def tk (S : TS) (o : Nat) : TS := match pr S o with
  | none => S
  | some p => (th S, va_up (pr S) o none, las S, va_up (ki S) p ((ki S p).erase o))
def pt (S : TS) (o p k : Nat) : TS := (th S, va_up (pr S) o (some p), las S, va_up (ki S) p ((ki S p).insertIdx k o))
def sl (S : TS) (o : Nat) (q : Option Nat) : TS := (th S, pr S, va_up (las S) o q, ki S)
def sth (S : TS) (o : Nat) (b : Bool) : TS := (va_up (th S) o b, pr S, las S, ki S)
theorem tk_some {S : TS} {o p : Nat} (h : pr S o = some p) : tk S o = (th S, va_up (pr S) o none, las S, va_up (ki S) p ((ki S p).erase o)) := by unfold tk; rw [h]
theorem tk_none {S : TS} {o : Nat} (h : pr S o = none) : tk S o = S := by unfold tk; rw [h]
theorem tk_th (S : TS) (o : Nat) : th (tk S o) = th S := by unfold tk; split <;> rfl
theorem tk_las (S : TS) (o : Nat) : las (tk S o) = las S := by unfold tk; split <;> rfl
theorem tk_pr (S : TS) (o : Nat) : pr (tk S o) = va_up (pr S) o none := by
  unfold tk
  split
  · next h => exact (va_up_id _ h).symm
  · rfl
theorem ins_erase {l : List Nat} {o k : Nat} (h : o ∉ l) (hk : k ≤ l.length) : (l.insertIdx k o).erase o = l := by
  induction l generalizing k with
  | nil =>
    have : k = 0 := by simpa using hk
    subst this
    simp
  | cons a l ih =>
    cases k with
    | zero => simp
    | succ k =>
      have ha : a ≠ o := fun z => h (by rw [z]; exact List.mem_cons_self)
      rw [List.insertIdx_succ_cons, List.erase_cons_tail (by simpa using ha), ih (fun z => h (List.mem_cons_of_mem _ z)) (by simpa using hk)]
theorem erase_ins {l : List Nat} {o : Nat} (h : o ∈ l) : (l.erase o).insertIdx (l.idxOf o) o = l := by
  induction l with
  | nil => cases h
  | cons a l ih =>
    by_cases ha : a = o
    · subst ha; simp
    · have h2 : o ∈ l := by
        rcases List.mem_cons.mp h with z | z
        · exact absurd z.symm ha
        · exact z
      rw [List.erase_cons_tail (by simpa using ha), show (a :: l).idxOf o = l.idxOf o + 1 by rw [List.idxOf_cons, show (a == o) = false by simpa using ha]; rfl, List.insertIdx_succ_cons, ih h2]
theorem tk_pt {S : TS} {o p k : Nat} (h : o ∉ ki S p) (hp : pr S o = none) (hk : k ≤ (ki S p).length) : tk (pt S o p k) o = S := by
  have h1 : pr (pt S o p k) o = some p := va_up_self _ _ _
  rw [tk_some h1]
  refine ts_ext rfl ?_ rfl ?_
  · show va_up (va_up (pr S) o (some p)) o none = pr S
    rw [bx_uu, va_up_id _ hp]
  · show va_up (va_up (ki S) p ((ki S p).insertIdx k o)) p ((va_up (ki S) p ((ki S p).insertIdx k o) p).erase o) = ki S
    rw [bx_uu, va_up_self, ins_erase h hk, va_up_id _ rfl]
theorem pt_tk {S : TS} {o p : Nat} (hp : pr S o = some p) (h : o ∈ ki S p) : pt (tk S o) o p ((ki S p).idxOf o) = S := by
  rw [tk_some hp]
  refine ts_ext rfl ?_ rfl ?_
  · show va_up (va_up (pr S) o none) o (some p) = pr S
    rw [bx_uu, va_up_id _ hp]
  · show va_up (va_up (ki S) p ((ki S p).erase o)) p ((va_up (ki S) p ((ki S p).erase o) p).insertIdx _ o) = ki S
    rw [bx_uu, va_up_self, erase_ins h, va_up_id _ rfl]
theorem tk_ki {S : TS} (h : WF S) {o p : Nat} (hp : pr S o = some p) (x : Nat) : ki (tk S o) x = if x = p then (ki S p).erase o else ki S x := by
  rw [tk_some hp]
  show va_up (ki S) p _ x = _
  by_cases hx : x = p
  · rw [if_pos hx, hx, va_up_self]
  · rw [if_neg hx, va_up_ne _ _ hx]
theorem tk_mem {S : TS} (h : WF S) {o : Nat} (x p : Nat) : x ∈ ki (tk S o) p ↔ x ∈ ki S p ∧ x ≠ o := by
  cases hp : pr S o with
  | none =>
    rw [tk_none hp]
    refine ⟨fun hx => ⟨hx, fun z => ?_⟩, fun hx => hx.1⟩
    rw [z] at hx
    rw [h.kp.mpr hx] at hp
    cases hp
  | some q =>
    rw [tk_ki h hp]
    by_cases hx : p = q
    · subst hx
      rw [if_pos rfl, List.Nodup.mem_erase_iff (h.nd p)]
      exact ⟨fun z => ⟨z.2, z.1⟩, fun z => ⟨z.2, z.1⟩⟩
    · rw [if_neg hx]
      refine ⟨fun z => ⟨z, fun w => ?_⟩, fun z => z.1⟩
      rw [w] at z
      have := h.kp.mpr z
      rw [hp] at this
      exact hx (Option.some.inj this).symm
theorem tk_out {S : TS} (h : WF S) (o p : Nat) : o ∉ ki (tk S o) p := fun z => ((tk_mem h o p).mp z).2 rfl
theorem tk_nd {S : TS} (h : WF S) (o p : Nat) : (ki (tk S o) p).Nodup := by
  cases hp : pr S o with
  | none => rw [tk_none hp]; exact h.nd p
  | some q =>
    rw [tk_ki h hp]
    split
    · exact (h.nd q).erase _
    · exact h.nd p
theorem ins_mem {l : List Nat} {o k x : Nat} (hk : k ≤ l.length) : x ∈ l.insertIdx k o ↔ x = o ∨ x ∈ l := by
  rw [List.mem_insertIdx hk]
theorem ins_nd {l : List Nat} {o k : Nat} (hk : k ≤ l.length) (hn : l.Nodup) (ho : o ∉ l) : (l.insertIdx k o).Nodup := by
  have hp := List.perm_insertIdx o l hk
  rw [hp.nodup_iff]
  exact List.nodup_cons.mpr ⟨ho, hn⟩
