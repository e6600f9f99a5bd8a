/-! the kinds of objects and their fields, in the order of the tables: declarer, name, descriptor, final -/
def F_0 : u_T := fun k => match k with
  | 0 => ("BinTrees", "rows", "Ljava/util/ArrayList;", true)
  | 1 => ("BinTrees", "trees", "[LBinTrees$Tree;", true)
  | 2 => ("BinTrees", "undone", "[Z", true)
  | _ => ("BinTrees", "objects", "I", false)
def t_0 : Nat → FieldType := fun k => match k with
  | 0 => .object "java/util/ArrayList"
  | 1 => .array (.object "BinTrees$Tree")
  | 2 => .array .boolean
  | _ => .int
def F_1 : u_T := fun k => match k with
  | 0 => ("BinTrees$Place", "object", "I", true)
  | 1 => ("BinTrees$Place", "children", "Ljava/util/ArrayList;", true)
  | 2 => ("BinTrees$Place", "parent", "LBinTrees$Place;", false)
  | 3 => ("BinTrees$Place", "last", "LBinTrees$Place;", false)
  | _ => ("BinTrees$Place", "there", "Z", false)
def t_1 : Nat → FieldType := fun k => match k with
  | 0 => .int
  | 1 => .object "java/util/ArrayList"
  | 2 => .object "BinTrees$Place"
  | 3 => .object "BinTrees$Place"
  | _ => .boolean
def F_2 : u_T := fun k => match k with
  | 0 => ("BinTrees$Row", "number", "I", true)
  | 1 => ("BinTrees$Row", "node", "I", true)
  | 2 => ("BinTrees$Row", "time", "I", true)
  | 3 => ("BinTrees$Row", "sort", "I", true)
  | 4 => ("BinTrees$Row", "object", "I", true)
  | 5 => ("BinTrees$Row", "to", "I", true)
  | _ => ("BinTrees$Row", "behind", "I", true)
def t_2 : Nat → FieldType := fun k => match k with
  | 0 => .int
  | 1 => .int
  | 2 => .int
  | 3 => .int
  | 4 => .int
  | 5 => .int
  | _ => .int
def F_3 : u_T := fun k => match k with
  | 0 => ("BinTrees$Step", "row", "LBinTrees$Row;", true)
  | 1 => ("BinTrees$Step", "isUndone", "Z", false)
  | 2 => ("BinTrees$Step", "acted", "Z", false)
  | 3 => ("BinTrees$Step", "place", "LBinTrees$Place;", false)
  | 4 => ("BinTrees$Step", "parent", "LBinTrees$Place;", false)
  | 5 => ("BinTrees$Step", "last", "LBinTrees$Place;", false)
  | _ => ("BinTrees$Step", "at", "I", false)
def t_3 : Nat → FieldType := fun k => match k with
  | 0 => .object "BinTrees$Row"
  | 1 => .boolean
  | 2 => .boolean
  | 3 => .object "BinTrees$Place"
  | 4 => .object "BinTrees$Place"
  | 5 => .object "BinTrees$Place"
  | _ => .int
def F_4 : u_T := fun k => match k with
  | 0 => ("BinTrees$Tree", "number", "I", true)
  | 1 => ("BinTrees$Tree", "places", "[LBinTrees$Place;", true)
  | 2 => ("BinTrees$Tree", "bin", "LBinTrees$Place;", true)
  | 3 => ("BinTrees$Tree", "steps", "Ljava/util/ArrayList;", true)
  | 4 => ("BinTrees$Tree", "known", "[LBinTrees$Step;", true)
  | 5 => ("BinTrees$Tree", "undoes", "[Z", true)
  | 6 => ("BinTrees$Tree", "many", "I", false)
  | 7 => ("BinTrees$Tree", "time", "I", false)
  | _ => ("BinTrees$Tree", "cost", "I", false)
def t_4 : Nat → FieldType := fun k => match k with
  | 0 => .int
  | 1 => .array (.object "BinTrees$Place")
  | 2 => .object "BinTrees$Place"
  | 3 => .object "java/util/ArrayList"
  | 4 => .array (.object "BinTrees$Step")
  | 5 => .array .boolean
  | 6 => .int
  | 7 => .int
  | _ => .int
def F_5 : u_T := fun k => match k with
  | 0 => ("BinTreesModel", "thrown", "I", false)
  | 1 => ("BinTreesModel", "rows", "I", false)
  | 2 => ("BinTreesModel", "sort", "[I", true)
  | 3 => ("BinTreesModel", "who", "[I", true)
  | 4 => ("BinTreesModel", "time", "[I", true)
  | 5 => ("BinTreesModel", "what", "[I", true)
  | 6 => ("BinTreesModel", "to", "[I", true)
  | 7 => ("BinTreesModel", "behind", "[I", true)
  | 8 => ("BinTreesModel", "objects", "I", false)
  | 9 => ("BinTreesModel", "knows", "[Z", true)
  | 10 => ("BinTreesModel", "clock", "[I", true)
  | 11 => ("BinTreesModel", "cost", "[I", true)
  | 12 => ("BinTreesModel", "builtFor", "I", false)
  | 13 => ("BinTreesModel", "there", "[Z", true)
  | 14 => ("BinTreesModel", "parent", "[I", true)
  | 15 => ("BinTreesModel", "last", "[I", true)
  | 16 => ("BinTreesModel", "kids", "[I", true)
  | 17 => ("BinTreesModel", "kid", "[I", true)
  | 18 => ("BinTreesModel", "how", "[I", true)
  | 19 => ("BinTreesModel", "orders", "I", false)
  | 20 => ("BinTreesModel", "order", "[I", true)
  | 21 => ("BinTreesModel", "others", "I", false)
  | 22 => ("BinTreesModel", "other", "[I", true)
  | 23 => ("BinTreesModel", "oldKids", "[I", true)
  | 24 => ("BinTreesModel", "oldKid", "[I", true)
  | _ => ("BinTreesModel", "oldThere", "[Z", true)
def t_5 : Nat → FieldType := fun k => match k with
  | 0 => .int
  | 1 => .int
  | 2 => .array .int
  | 3 => .array .int
  | 4 => .array .int
  | 5 => .array .int
  | 6 => .array .int
  | 7 => .array .int
  | 8 => .int
  | 9 => .array .boolean
  | 10 => .array .int
  | 11 => .array .int
  | 12 => .int
  | 13 => .array .boolean
  | 14 => .array .int
  | 15 => .array .int
  | 16 => .array .int
  | 17 => .array .int
  | 18 => .array .int
  | 19 => .int
  | 20 => .array .int
  | 21 => .int
  | 22 => .array .int
  | 23 => .array .int
  | 24 => .array .int
  | _ => .array .boolean
def F_6 : u_T := fun k => match k with
  | 0 => ("java/util/ArrayList", "elementData", "[Ljava/lang/Object;", false)
  | 1 => ("java/util/ArrayList", "size", "I", false)
  | _ => ("java/util/AbstractList", "modCount", "I", false)
def t_6 : Nat → FieldType := fun k => match k with
  | 0 => .array (.object "java/lang/Object")
  | 1 => .int
  | _ => .int
def F_7 : u_T := fun k => match k with
  | 0 => ("java/util/ArrayList$Itr", "cursor", "I", false)
  | 1 => ("java/util/ArrayList$Itr", "lastRet", "I", false)
  | 2 => ("java/util/ArrayList$Itr", "expectedModCount", "I", false)
  | _ => ("java/util/ArrayList$Itr", "this$0", "Ljava/util/ArrayList;", true)
def t_7 : Nat → FieldType := fun k => match k with
  | 0 => .int
  | 1 => .int
  | 2 => .int
  | _ => .object "java/util/ArrayList"
abbrev classes : List vw_C := [("BinTrees", F_0, 4), ("BinTrees$Place", F_1, 5), ("BinTrees$Row", F_2, 7), ("BinTrees$Step", F_3, 7), ("BinTrees$Tree", F_4, 9), ("BinTreesModel", F_5, 26), ("java/util/ArrayList", F_6, 3), ("java/util/ArrayList$Itr", F_7, 4)]
def fty : Nat → Nat → FieldType := fun ci => match ci with
  | 0 => t_0
  | 1 => t_1
  | 2 => t_2
  | 3 => t_3
  | 4 => t_4
  | 5 => t_5
  | 6 => t_6
  | _ => t_7
/-! which words stay true when the machine's tables warm up -/
def gdN : Cond → Bool
  | .fieldLinkNest .. => true
  | .methodLinkNest .. => true
  | _ => false
def gdA : Cond → Bool
  | .arrayClass _ => true
  | .arrayOver (.object _) => true
  | _ => false
def gd (w : Cond) : Bool := (w.onTables && (w.keeps || (w.faceAtom || gdN w))) || gdA w
theorem gd_warm {w : Cond} (hg : gd w = true) {s U : State} {A A' : Array Value} (hW : s.WarmedH U.vm) (h : w.before A s = true) : w.before A' U = true := by
  unfold gd at hg
  rcases Bool.or_eq_true_iff.mp hg with hg | hg
  · obtain ⟨h1, h2⟩ := Bool.and_eq_true_iff.mp hg
    rcases Bool.or_eq_true_iff.mp h2 with h2 | h2
    · exact word_at hW (Or.inl (by rw [h1, h2]; rfl)) h
    · rcases Bool.or_eq_true_iff.mp h2 with h2 | h2
      · have h3 := Cond.faceAtom_setVm (args := A) hW.alike w h2 h
        rw [Cond.onTables_vm (A := A) (A' := A') (U := s) (U' := U) U.vm w h1] at h3
        exact h3
      · cases w <;> first | (simp [gdN] at h2; done) | exact va_Nw.use rfl (va_Nw.warmF hW (va_Nw.of rfl h)) | exact va_Nw.use rfl (va_Nw.warmM hW (va_Nw.of rfl h))
  · cases w with
    | arrayClass ty => exact word_at hW (Or.inr ⟨ty, rfl⟩) h
    | arrayOver ty =>
      cases ty with
      | object C => exact va_AO.use (va_AO.moved hW.alike (va_AO.of h))
      | _ => simp [gdA] at hg
    | _ => simp [gdA] at hg
def TT : List Cond := lw_tbl.filter gd
theorem tt_mem {w : Cond} (i : Nat) (h : lw_tbl[i]? = some w) (hg : gd w = true) : w ∈ TT := List.mem_filter.mpr ⟨List.mem_of_getElem? h, hg⟩
theorem tt_warm {s U : State} {A : Array Value} (ht : ∀ w ∈ TT, w.before A s = true) : ∀ w ∈ TT, ∀ (A' : Array Value) (U : State), s.WarmedH U.vm → w.before A' U = true :=
  fun w hw A' U hW => gd_warm (List.mem_filter.mp hw).2 hW (ht w hw)
/-! MEMORY: kind, int fields, reference fields (field number, address), lengths, int elements, reference elements (address, place), owner -/
abbrev Mem : Type := (Nat → Nat) × (Nat → Nat → Int32) × (Nat → Nat → Option Nat) × (Nat → Nat) × (Nat → Nat → Int32) × (Nat → Nat → Option Nat) × (Nat → Nat)
def kd (M : Mem) : Nat → Nat := M.1
def fI (M : Mem) : Nat → Nat → Int32 := M.2.1
def fR (M : Mem) : Nat → Nat → Option Nat := M.2.2.1
def ln (M : Mem) : Nat → Nat := M.2.2.2.1
def eI (M : Mem) : Nat → Nat → Int32 := M.2.2.2.2.1
def eR (M : Mem) : Nat → Nat → Option Nat := M.2.2.2.2.2.1
def ow (M : Mem) : Nat → Nat := M.2.2.2.2.2.2
def up2 {α : Type} (f : Nat → Nat → α) (i k : Nat) (v : α) : Nat → Nat → α := fun g j => if g = i ∧ j = k then v else f g j
theorem up2_self {α : Type} (f : Nat → Nat → α) (i k : Nat) (v : α) : up2 f i k v i k = v := by simp [up2]
theorem up2_ne {α : Type} (f : Nat → Nat → α) {i k g j : Nat} (v : α) (h : ¬ (g = i ∧ j = k)) : up2 f i k v g j = f g j := by simp only [up2, if_neg h]
def sI (M : Mem) (f a : Nat) (v : Int32) : Mem := (kd M, up2 (fI M) f a v, fR M, ln M, eI M, eR M, ow M)
def sR (M : Mem) (f a : Nat) (v : Option Nat) : Mem := (kd M, fI M, up2 (fR M) f a v, ln M, eI M, eR M, ow M)
def sEI (M : Mem) (a k : Nat) (v : Int32) : Mem := (kd M, fI M, fR M, ln M, up2 (eI M) a k v, eR M, ow M)
def sER (M : Mem) (a k : Nat) (v : Option Nat) : Mem := (kd M, fI M, fR M, ln M, eI M, up2 (eR M) a k v, ow M)
/-- a whole array of references anew -/
def sAR (M : Mem) (a : Nat) (g : Nat → Option Nat) : Mem := (kd M, fI M, fR M, ln M, eI M, va_up (eR M) a g, ow M)
/-- a fresh object of kind k (its number + 1) -/
def nwO (M : Mem) (q k o : Nat) : Mem := (va_up (kd M) q k, fun f a => if a = q then 0 else fI M f a, fun f a => if a = q then none else fR M f a, ln M, eI M, eR M, va_up (ow M) q o)
/-- a fresh array of kind k, of ints or of references -/
def nwA (M : Mem) (q k n o : Nat) : Mem := (va_up (kd M) q k, fI M, fR M, va_up (ln M) q n, va_up (eI M) q (fun _ => 0), eR M, va_up (ow M) q o)
def nwR (M : Mem) (q k n o : Nat) : Mem := (va_up (kd M) q k, fI M, fR M, va_up (ln M) q n, eI M, va_up (eR M) q (fun _ => none), va_up (ow M) q o)
/-! kinds of arrays: 20 int, 21 boolean, 23 Place, 24 Step, 25 Tree, from 1000 on Object (less 1000: the list that has it); 30 the empty one of the library -/
def akd (k : Nat) : Option Nat := if k = 20 then some 0 else if k = 21 then some 1 else if k = 23 then some 3 else if k = 24 then some 4 else if k = 25 then some 5 else if 1000 ≤ k then some 2 else none
def aty (t : Nat) : FieldType := match t with
  | 0 => .int
  | 1 => .boolean
  | 2 => .object "java/lang/Object"
  | 3 => .object "BinTrees$Place"
  | 4 => .object "BinTrees$Step"
  | _ => .object "BinTrees$Tree"
abbrev Glob : Type := Heap × va_G × (Nat → ClassId) × Nat × Nat
abbrev Glob.B (Θ : Glob) : Heap := Θ.1
abbrev Glob.D (Θ : Glob) : va_G := Θ.2.1
abbrev Glob.tc (Θ : Glob) : Nat → ClassId := Θ.2.2.1
abbrev Glob.E (Θ : Glob) : Nat := Θ.2.2.2.1
abbrev Glob.mi (Θ : Glob) : Nat := Θ.2.2.2.2
def isR (t : FieldType) : Bool := match t with
  | .object _ => true
  | .array _ => true
  | _ => false
def fv (M : Mem) (ci j a : Nat) : Value := if isR (fty ci j) = true then va_rf (fR M (32 * ci + j) a) else .int (fI M (32 * ci + j) a)
def av (M : Mem) (t a j : Nat) : Value := if t < 2 then .int (eI M a j) else va_rf (eR M a j)
/-- the heap holds the memory; what was there before stays as it was -/
def Rep (Θ : Glob) (M : Mem) (H : Heap) : Prop :=
  Θ.B.size ≤ H.size ∧ (∀ q : Nat, q < Θ.B.size → H[q]? = Θ.B[q]?) ∧ (∀ a : Nat, kd M a ≠ 0 → a < H.size ∧ (a < Θ.B.size → kd M a = 30)) ∧ (kd M Θ.E = 30 ∧ ∀ a : Nat, kd M a = 30 → a = Θ.E ∧ ln M a = 0) ∧
  (∀ (a ci : Nat) (r : vw_C), kd M a = ci + 1 → classes[ci]? = some r → t_OB a (Θ.D.1 ci) r.2.2 (Θ.D.2 ci) H (fun j => fv M ci j a)) ∧
  (∀ a t : Nat, akd (kd M a) = some t → H[a]? = some (arrV (Θ.tc t) (ln M a) (av M t a)))
abbrev tysOf (Θ : Glob) : List (ClassId × FieldType) := [(Θ.tc 0, aty 0), (Θ.tc 1, aty 1), (Θ.tc 2, aty 2), (Θ.tc 3, aty 3), (Θ.tc 4, aty 4), (Θ.tc 5, aty 5)]
/-- what is known of the machine's tables, of the library's empty array and of a mirror -/
def KK (Θ : Glob) (U : State) : Prop :=
  va_K Θ.D classes (tysOf Θ) U ∧ va_Z "java/util/ArrayList" "DEFAULTCAPACITY_EMPTY_ELEMENTDATA" "[Ljava/lang/Object;" (.ref Θ.E) (fun _ => False) U Θ.B ∧
  va_T (.object "java/lang/Object") Θ.E 0 (fun _ => .null) (fun _ => False) U Θ.B ∧ va_Mi "[Ljava/lang/Object;" Θ.mi U
theorem KK.moved {Θ : Glob} {u U : State} (hvm : u.vm.Alike U.vm) (h : KK Θ u) : KK Θ U := ⟨h.1.moved hvm, h.2.1.moved hvm, h.2.2.1.moved hvm, h.2.2.2.moved hvm⟩
/-! locals -/
def lst (L : List (Option Value)) : List (Nat × Value) := (List.range L.length).filterMap (fun j => (L[j]?.join).map (fun w => (j, w)))
theorem lst_mem {L : List (Option Value)} {q : Nat × Value} : q ∈ lst L ↔ L[q.1]? = some (some q.2) := by
  obtain ⟨j, w⟩ := q
  unfold lst
  rw [List.mem_filterMap]
  constructor
  · rintro ⟨i, hi, h⟩
    cases hx : L[i]? with
    | none => rw [hx] at h; cases h
    | some o =>
      rw [hx] at h
      cases o with
      | none => cases h
      | some v => cases h; exact hx
  · intro h
    refine ⟨j, List.mem_range.mpr (List.getElem?_eq_some_iff.mp h).1, ?_⟩
    show (L[j]?.join).map _ = _
    rw [show L[j]? = some (some w) from h]
    rfl
def hasL (ls : Array Slot) (L : List (Option Value)) : Prop := ls.size = L.length ∧ lv_wf ls ∧ ∀ (i : Nat) (v : Value), L[i]? = some (some v) → ls[i]? = some (.val v) ∧ v.category = 1
theorem hasL.lv {ls : Array Slot} {L : List (Option Value)} (h : hasL ls L) : lv_has ls L.length (lst L) := ⟨h.1, h.2.1, fun q hq => (h.2.2 q.1 q.2 (lst_mem.mp hq)).1⟩
theorem hasL.store {ls ls' : Array Slot} {L : List (Option Value)} {i : Nat} {v : Value} (h : hasL ls L) (hi : i < L.length) (hc : v.category = 1)
    (h' : lv_has ls' L.length ((i, v) :: (lst L).filter (fun q => !(q.1 == i) && !(q.1 + 1 == i && q.2.category == 2)))) : hasL ls' (L.set i (some v)) := by
  refine ⟨by rw [List.length_set]; exact h'.1, h'.2.1, fun j w hj => ?_⟩
  by_cases hji : j = i
  · subst hji
    rw [List.getElem?_set_self hi] at hj
    cases hj
    exact ⟨h'.2.2 (j, v) List.mem_cons_self, hc⟩
  · rw [List.getElem?_set_ne (Ne.symm hji)] at hj
    have h2 := h.2.2 j w hj
    refine ⟨h'.2.2 (j, w) (List.mem_cons_of_mem _ (List.mem_filter.mpr ⟨lst_mem.mpr hj, ?_⟩)), h2.2⟩
    simp [hji, h2.2]
/-- THE JUDGEMENT: with memory M, locals L, at pc with operand stack st the machine comes to Q -/
def Gj (p : Program) (l : Launch) (e : Env) (R : Room) (s : State) (m : MethodId) (args : Array Value) (below : List Frame) (meth : Method) (c : Code) (Θ : Glob) (M : Mem) (L : List (Option Value)) (cells slots : Nat) (Q : State → Prop) (pc : Nat) (st : List Value) : Prop :=
  ∀ (H : Heap) (locs : List Loc) (ls : Array Slot), Rep Θ M H → (∀ q ∈ locs, Θ.B.size ≤ q.base) → hasL ls L → W p l e R s m args below meth c H locs cells slots Q (F0 m pc ls st)
/-- what is fixed while a method runs -/
def Cx (p : Program) (s : State) (m : MethodId) (args : Array Value) (meth : Method) (c : Code) (Θ : Glob) (y : MethodName) (cc : ByteArray) (nL : Nat) (ret : Option FieldType) : Prop :=
  p.tables.exec = Jvm.exec ∧ c.code = cc ∧ c.maxLocals = nL ∧ s.vm.findClass y.cls = some m.cls ∧ (∀ w ∈ TT, w.before args s = true) ∧ KK Θ s ∧ meth.sig.returnType = ret ∧ meth.locks = false ∧ meth.name = y.name
