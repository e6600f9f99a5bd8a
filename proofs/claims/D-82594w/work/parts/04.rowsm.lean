/-! facts of the eight kinds of objects, by program -/
theorem cw_0 : ∀ w ∈ u_ws "BinTrees" F_0 4, w ∈ lw_tbl ∧ gd w = true := by decide +kernel
theorem cw_1 : ∀ w ∈ u_ws "BinTrees$Place" F_1 5, w ∈ lw_tbl ∧ gd w = true := by decide +kernel
theorem cw_2 : ∀ w ∈ u_ws "BinTrees$Row" F_2 7, w ∈ lw_tbl ∧ gd w = true := by decide +kernel
theorem cw_3 : ∀ w ∈ u_ws "BinTrees$Step" F_3 7, w ∈ lw_tbl ∧ gd w = true := by decide +kernel
theorem cw_4 : ∀ w ∈ u_ws "BinTrees$Tree" F_4 9, w ∈ lw_tbl ∧ gd w = true := by decide +kernel
theorem cw_5 : ∀ w ∈ u_ws "BinTreesModel" F_5 26, w ∈ lw_tbl ∧ gd w = true := by decide +kernel
theorem cw_6 : ∀ w ∈ u_ws "java/util/ArrayList" F_6 3, w ∈ lw_tbl ∧ gd w = true := by decide +kernel
theorem cw_7 : ∀ w ∈ u_ws "java/util/ArrayList$Itr" F_7 4, w ∈ lw_tbl ∧ gd w = true := by decide +kernel
/-- a property of all eight -/
theorem cls_all {P : Nat → vw_C → Prop} (h0 : P 0 ("BinTrees", F_0, 4)) (h1 : P 1 ("BinTrees$Place", F_1, 5)) (h2 : P 2 ("BinTrees$Row", F_2, 7)) (h3 : P 3 ("BinTrees$Step", F_3, 7)) (h4 : P 4 ("BinTrees$Tree", F_4, 9)) (h5 : P 5 ("BinTreesModel", F_5, 26)) (h6 : P 6 ("java/util/ArrayList", F_6, 3)) (h7 : P 7 ("java/util/ArrayList$Itr", F_7, 4)) : ∀ (ci : Nat) (r : vw_C), classes[ci]? = some r → P ci r := by
  intro ci r h
  match ci, h with
  | 0, h => cases h; exact h0
  | 1, h => cases h; exact h1
  | 2, h => cases h; exact h2
  | 3, h => cases h; exact h3
  | 4, h => cases h; exact h4
  | 5, h => cases h; exact h5
  | 6, h => cases h; exact h6
  | 7, h => cases h; exact h7
  | k + 8, h => simp [classes] at h
theorem cls_lt {ci : Nat} {r : vw_C} (h : classes[ci]? = some r) : ci < 8 := (List.getElem?_eq_some_iff.mp h).1
theorem cls_ws : ∀ (ci : Nat) (r : vw_C), classes[ci]? = some r → ∀ w ∈ u_ws r.1 r.2.1 r.2.2, w ∈ TT :=
  cls_all (P := fun _ r => ∀ w ∈ u_ws r.1 r.2.1 r.2.2, w ∈ TT) (fun w h => List.mem_filter.mpr (cw_0 w h)) (fun w h => List.mem_filter.mpr (cw_1 w h)) (fun w h => List.mem_filter.mpr (cw_2 w h)) (fun w h => List.mem_filter.mpr (cw_3 w h)) (fun w h => List.mem_filter.mpr (cw_4 w h)) (fun w h => List.mem_filter.mpr (cw_5 w h)) (fun w h => List.mem_filter.mpr (cw_6 w h)) (fun w h => List.mem_filter.mpr (cw_7 w h))
theorem cls_ty : ∀ (ci : Nat) (r : vw_C), classes[ci]? = some r → ∀ k, k < r.2.2 → parseFieldDescriptor (r.2.1 k).2.2.1 = some (fty ci k) :=
  cls_all (P := fun ci r => ∀ k, k < r.2.2 → parseFieldDescriptor (r.2.1 k).2.2.1 = some (fty ci k)) (by decide +kernel) (by decide +kernel) (by decide +kernel) (by decide +kernel) (by decide +kernel) (by decide +kernel) (by decide +kernel) (by decide +kernel)
theorem cls_nm : ∀ (ci : Nat) (r : vw_C), classes[ci]? = some r → ∀ a, a < r.2.2 → ∀ b, b < r.2.2 → a ≠ b → (r.2.1 a).2.1 ≠ (r.2.1 b).2.1 :=
  cls_all (P := fun ci r => ∀ a, a < r.2.2 → ∀ b, b < r.2.2 → a ≠ b → (r.2.1 a).2.1 ≠ (r.2.1 b).2.1) (by decide +kernel) (by decide +kernel) (by decide +kernel) (by decide +kernel) (by decide +kernel) (by decide +kernel) (by decide +kernel) (by decide +kernel)
def dfv (t : FieldType) : Value := if isR t = true then .null else .int 0
theorem cls_df : ∀ (ci : Nat) (r : vw_C), classes[ci]? = some r → ∀ k, k < r.2.2 → defaultValue (fty ci k) = dfv (fty ci k) :=
  cls_all (P := fun ci r => ∀ k, k < r.2.2 → defaultValue (fty ci k) = dfv (fty ci k)) (by decide +kernel) (by decide +kernel) (by decide +kernel) (by decide +kernel) (by decide +kernel) (by decide +kernel) (by decide +kernel) (by decide +kernel)
theorem akd_obj {ci : Nat} (h : ci < 8) : akd (ci + 1) = none := by
  unfold akd
  rw [if_neg (by omega), if_neg (by omega), if_neg (by omega), if_neg (by omega), if_neg (by omega), if_neg (by omega)]
theorem akd_ne {k t : Nat} (h : akd k = some t) : k ≠ 0 ∧ k ≠ 30 ∧ 8 < k ∧ t < 6 := by
  unfold akd at h
  split at h
  · cases h; omega
  · split at h
    · cases h; omega
    · split at h
      · cases h; omega
      · split at h
        · cases h; omega
        · split at h
          · cases h; omega
          · split at h
            · cases h; omega
            · cases h
theorem Rep.sz {Θ : Glob} {M : Mem} {H : Heap} (h : Rep Θ M H) : Θ.B.size ≤ H.size := h.1
theorem Rep.low {Θ : Glob} {M : Mem} {H : Heap} (h : Rep Θ M H) : ∀ q : Nat, q < Θ.B.size → H[q]? = Θ.B[q]? := h.2.1
theorem Rep.dom {Θ : Glob} {M : Mem} {H : Heap} (h : Rep Θ M H) : ∀ a : Nat, kd M a ≠ 0 → a < H.size ∧ (a < Θ.B.size → kd M a = 30) := h.2.2.1
theorem Rep.em {Θ : Glob} {M : Mem} {H : Heap} (h : Rep Θ M H) : kd M Θ.E = 30 ∧ ∀ a : Nat, kd M a = 30 → a = Θ.E ∧ ln M a = 0 := h.2.2.2.1
theorem Rep.obj {Θ : Glob} {M : Mem} {H : Heap} (h : Rep Θ M H) : ∀ (a ci : Nat) (r : vw_C), kd M a = ci + 1 → classes[ci]? = some r → t_OB a (Θ.D.1 ci) r.2.2 (Θ.D.2 ci) H (fun j => fv M ci j a) := h.2.2.2.2.1
theorem Rep.arr {Θ : Glob} {M : Mem} {H : Heap} (h : Rep Θ M H) : ∀ a t : Nat, akd (kd M a) = some t → H[a]? = some (arrV (Θ.tc t) (ln M a) (av M t a)) := h.2.2.2.2.2
theorem Rep.mine {Θ : Glob} {M : Mem} {H : Heap} (h : Rep Θ M H) {a : Nat} (h0 : kd M a ≠ 0) (h1 : kd M a ≠ 30) : Θ.B.size ≤ a := Nat.not_lt.mp fun q => h1 ((h.dom a h0).2 q)
/-- an object's cell anew -/
theorem Rep.setO {Θ : Glob} {M M' : Mem} {H H' : Heap} (h : Rep Θ M H) {a ci : Nat} {r : vw_C} (hk : kd M a = ci + 1) (hc : classes[ci]? = some r) (z : H'.size = H.size) (oq : ∀ q : Nat, q ≠ a → H'[q]? = H[q]?)
    (e1 : kd M' = kd M) (e2 : ln M' = ln M) (e3 : eI M' = eI M) (e4 : eR M' = eR M) (e5 : ∀ g b : Nat, b ≠ a → fI M' g b = fI M g b) (e6 : ∀ g b : Nat, b ≠ a → fR M' g b = fR M g b)
    (hO : t_OB a (Θ.D.1 ci) r.2.2 (Θ.D.2 ci) H' (fun j => fv M' ci j a)) : Rep Θ M' H' := by
  have hlt := cls_lt hc
  have hma : Θ.B.size ≤ a := h.mine (by omega) (by omega)
  refine ⟨by rw [z]; exact h.sz, fun q hq => ?_, fun b hb => ?_, ?_, fun b cj r2 hb hc2 => ?_, fun b t hb => ?_⟩
  · rw [oq q (by omega)]; exact h.low q hq
  · rw [e1] at hb ⊢; rw [z]; exact h.dom b hb
  · rw [e1, e2]; exact h.em
  · rw [e1] at hb
    by_cases hba : b = a
    · subst hba
      have : cj = ci := by omega
      subst this
      cases hc.symm.trans hc2
      exact hO
    · refine ((h.obj b cj r2 hb hc2).kept (oq b hba)).to fun j hj => ?_
      show fv M cj j b = fv M' cj j b
      unfold fv
      rw [e5 _ _ hba, e6 _ _ hba]
  · rw [e1] at hb
    have hba : b ≠ a := by
      intro q
      rw [q, hk, akd_obj hlt] at hb
      cases hb
    rw [oq b hba, h.arr b t hb, e2]
    unfold av
    rw [e3, e4]
/-- an array's cell anew -/
theorem Rep.setA {Θ : Glob} {M M' : Mem} {H H' : Heap} (h : Rep Θ M H) {a t : Nat} (hk : akd (kd M a) = some t) (z : H'.size = H.size) (oq : ∀ q : Nat, q ≠ a → H'[q]? = H[q]?)
    (e1 : kd M' = kd M) (e2 : ln M' = ln M) (e3 : fI M' = fI M) (e4 : fR M' = fR M) (e5 : ∀ b k : Nat, b ≠ a → eI M' b k = eI M b k) (e6 : ∀ b k : Nat, b ≠ a → eR M' b k = eR M b k)
    (hA : H'[a]? = some (arrV (Θ.tc t) (ln M a) (av M' t a))) : Rep Θ M' H' := by
  have hne := akd_ne hk
  have hma : Θ.B.size ≤ a := h.mine hne.1 hne.2.1
  refine ⟨by rw [z]; exact h.sz, fun q hq => ?_, fun b hb => ?_, ?_, fun b cj r2 hb hc2 => ?_, fun b t2 hb => ?_⟩
  · rw [oq q (by omega)]; exact h.low q hq
  · rw [e1] at hb ⊢; rw [z]; exact h.dom b hb
  · rw [e1, e2]; exact h.em
  · rw [e1] at hb
    have hba : b ≠ a := by
      intro q
      rw [q] at hb
      have := cls_lt hc2
      omega
    refine ((h.obj b cj r2 hb hc2).kept (oq b hba)).to fun j hj => ?_
    show fv M cj j b = fv M' cj j b
    unfold fv
    rw [e3, e4]
  · rw [e1] at hb
    by_cases hba : b = a
    · subst hba
      cases hk.symm.trans hb
      rw [hA, e2]
    · rw [oq b hba, h.arr b t2 hb, e2]
      unfold av
      congr 2
      funext k
      rw [e5 _ _ hba, e6 _ _ hba]
/-- a fresh cell -/
theorem Rep.new {Θ : Glob} {M M' : Mem} {H H' : Heap} (h : Rep Θ M H) {q k : Nat} (hq : q = H.size) (hk0 : k ≠ 0) (hk30 : k ≠ 30) (z : H'.size = H.size + 1) (oq : ∀ b : Nat, b < H.size → H'[b]? = H[b]?)
    (e1 : kd M' = va_up (kd M) q k) (e2 : ∀ b, b ≠ q → ln M' b = ln M b) (e3 : ∀ g b : Nat, b ≠ q → fI M' g b = fI M g b) (e4 : ∀ g b : Nat, b ≠ q → fR M' g b = fR M g b) (e5 : ∀ b j : Nat, b ≠ q → eI M' b j = eI M b j) (e6 : ∀ b j : Nat, b ≠ q → eR M' b j = eR M b j)
    (hO : ∀ (ci : Nat) (r : vw_C), k = ci + 1 → classes[ci]? = some r → t_OB q (Θ.D.1 ci) r.2.2 (Θ.D.2 ci) H' (fun j => fv M' ci j q)) (hA : ∀ t : Nat, akd k = some t → H'[q]? = some (arrV (Θ.tc t) (ln M' q) (av M' t q))) : Rep Θ M' H' := by
  have hkd : ∀ b, b ≠ q → kd M' b = kd M b := fun b hb => by rw [e1, va_up_ne _ _ hb]
  have hkq : kd M' q = k := by rw [e1, va_up_self]
  have hk00 : kd M q = 0 := by
    by_cases h0 : kd M q = 0
    · exact h0
    · have := (h.dom q h0).1
      omega
  have hE : Θ.E ≠ q := by
    intro w
    have := h.em.1
    rw [w, hk00] at this
    cases this
  refine ⟨by rw [z]; have := h.sz; omega, fun b hb => ?_, fun b hb => ?_, ⟨?_, fun b hb => ?_⟩, fun b cj r2 hb hc2 => ?_, fun b t2 hb => ?_⟩
  · rw [oq b (by have := h.sz; omega)]; exact h.low b hb
  · by_cases hbq : b = q
    · subst hbq
      refine ⟨by omega, fun w => ?_⟩
      have := h.sz
      omega
    · rw [hkd b hbq] at hb ⊢
      have := h.dom b hb
      exact ⟨by omega, this.2⟩
  · rw [hkd _ hE]; exact h.em.1
  · by_cases hbq : b = q
    · subst hbq
      rw [hkq] at hb
      exact absurd hb hk30
    · rw [hkd b hbq] at hb
      rw [e2 b hbq]
      exact h.em.2 b hb
  · by_cases hbq : b = q
    · subst hbq
      rw [hkq] at hb
      exact hO cj r2 hb hc2
    · rw [hkd b hbq] at hb
      refine ((h.obj b cj r2 hb hc2).kept (oq b ((h.dom b (by omega)).1))).to fun j hj => ?_
      show fv M cj j b = fv M' cj j b
      unfold fv
      rw [e3 _ _ hbq, e4 _ _ hbq]
  · by_cases hbq : b = q
    · subst hbq
      rw [hkq] at hb
      exact hA t2 hb
    · rw [hkd b hbq] at hb
      rw [oq b ((h.dom b (akd_ne hb).1).1), h.arr b t2 hb, e2 b hbq]
      unfold av
      congr 2
      funext j
      rw [e5 _ _ hbq, e6 _ _ hbq]
theorem Rep.fresh {Θ : Glob} {M : Mem} {H : Heap} (h : Rep Θ M H) : kd M H.size = 0 := by
  by_cases h0 : kd M H.size = 0
  · exact h0
  · have := (h.dom _ h0).1
    omega
theorem Rep.recv {Θ : Glob} {M : Mem} {H : Heap} {U : State} (h : Rep Θ M H) (hK : KK Θ U) {a ci : Nat} {r : vw_C} (hk : kd M a = ci + 1) (hc : classes[ci]? = some r) : ∃ cell : Cell, H[a]? = some cell ∧ cell.vm.isStatics = false ∧ U.vm.findClass r.1 = some cell.cls := by
  obtain ⟨cell, q1, q2, q3, -⟩ := h.obj a ci r hk hc
  exact ⟨cell, q1, by rw [q3]; rfl, by rw [q2]; exact (hK.1.1 ci r hc).2.1⟩
/-! links -/
def Fl (own : String) (idx ci j : Nat) : Prop := ∃ (r : vw_C) (ref : String), classes[ci]? = some r ∧ j < r.2.2 ∧ (Cond.fieldLink own idx ref (r.2.1 j).2.1 (r.2.1 j).2.2.1 ∈ TT ∨ ∃ host, Cond.fieldLinkNest own idx ref (r.2.1 j).2.1 (r.2.1 j).2.2.1 host ∈ TT) ∧ (ref = (r.2.1 j).1 ∨ Cond.sameField ref (r.2.1 j).1 (r.2.1 j).2.1 (r.2.1 j).2.2.1 ∈ TT)
def fnl (ci j : Nat) : Bool := match classes[ci]? with
  | some r => (r.2.1 j).2.2.2
  | none => false
theorem fnl_of {ci j : Nat} {r : vw_C} (hc : classes[ci]? = some r) : fnl ci j = (r.2.1 j).2.2.2 := by
  unfold fnl
  rw [hc]
def decl (ci j : Nat) : String := match classes[ci]? with
  | some r => (r.2.1 j).1
  | none => ""
theorem decl_of {ci j : Nat} {r : vw_C} (hc : classes[ci]? = some r) : decl ci j = (r.2.1 j).1 := by
  unfold decl
  rw [hc]
theorem k2_locs {Θ : Glob} {locs : List Loc} {a i : Nat} (h : ∀ q ∈ locs, Θ.B.size ≤ q.base) (ha : Θ.B.size ≤ a) : ∀ q ∈ locs ++ [(⟨a, i⟩ : Loc)], Θ.B.size ≤ q.base := by
  intro q hq
  rcases List.mem_append.mp hq with h1 | h1
  · exact h q h1
  · rw [List.mem_singleton.mp h1]; exact ha
section RM
variable {p : Program} {l : Launch} {e : Env} {R : Room} {s : State} {m : MethodId} {args : Array Value} {below : List Frame} {meth : Method} {c : Code} {Θ : Glob} {M : Mem} {L : List (Option Value)} {cells slots : Nat} {Q : State → Prop}
variable {y : MethodName} {cc : ByteArray} {nL pc : Nat} {ret : Option FieldType} {rest : List Value}
theorem fl_same {ts : String} {idx ci j : Nat} {r : vw_C} {ref : String} (hC : Cx p s m args meth c Θ y cc nL ret) (h : ref = (r.2.1 j).1 ∨ Cond.sameField ref (r.2.1 j).1 (r.2.1 j).2.1 (r.2.1 j).2.2.1 ∈ TT) : ∀ x, s.fieldFound? (r.2.1 j).1 (r.2.1 j).2.1 (r.2.1 j).2.2.1 = some x → s.fieldFound? ref (r.2.1 j).2.1 (r.2.1 j).2.2.1 = some x := by
  rcases h with h | h
  · rw [h]; exact fun _ q => q
  · exact fun x q => u_same (hC.2.2.2.2.1 _ h) x q
theorem r_get (hC : Cx p s m args meth c Θ y cc nL ret) (ci j : Nat) {idx a : Nat} (hF : Fl y.cls idx ci j) (hk : kd M a = ci + 1) (d : decode cc pc = .ok (.getfield idx, 3)) {v : Value} (hv : fv M ci j a = v) (k : Gj p l e R s m args below meth c Θ M L cells slots Q (pc + 3) (v :: rest)) : Gj p l e R s m args below meth c Θ M L cells slots Q pc (.ref a :: rest) := by
  intro H locs ls hR hL hl
  obtain ⟨r, ref, hc, hj, hlk, hsm⟩ := hF
  obtain ⟨cell, q1, q2, q3, q4⟩ := hR.obj a ci r hk hc
  obtain ⟨hS, hfc, kC, hkC, hkind⟩ := hC.2.2.2.2.2.1.1.1 ci r hc
  obtain ⟨cf, kf, fi, f, hi, hsl⟩ := hS j hj
  have hst := (u_facts hfc hkC (u_lays hC.2.2.2.2.1 (cls_ws ci r hc) hj) hi).1
  have hsame := fl_same (ts := "") (idx := 0) (ci := ci) hC hsm _ hi
  have hslot : cell.slots[f.slot]? = some v := by rw [hsl, q4 j hj, ← hv]
  rcases hlk with hlk | ⟨host, hlk⟩
  · exact W.getf hC.1 hC.2.1 hC.2.2.2.1 (hC.2.2.2.2.1 _ hlk) hsame hst q1 (by rw [q3]; exact fun h => by cases h) hslot rfl rfl d (k H locs ls hR hL hl)
  · exact va_Wgetf hC.1 hC.2.1 hC.2.2.2.1 (hC.2.2.2.2.1 _ hlk) hsame hst q1 (by rw [q3]; exact fun h => by cases h) hslot rfl rfl d (k H locs ls hR hL hl)
theorem r_getI (hC : Cx p s m args meth c Θ y cc nL ret) (ci j f : Nat) {idx a : Nat} (hF : Fl y.cls idx ci j) (hk : kd M a = ci + 1) (d : decode cc pc = .ok (.getfield idx, 3)) (hf : 32 * ci + j = f) (hr : isR (fty ci j) = false) {v : Int32} (hv : fI M f a = v) (k : Gj p l e R s m args below meth c Θ M L cells slots Q (pc + 3) (.int v :: rest)) : Gj p l e R s m args below meth c Θ M L cells slots Q pc (.ref a :: rest) :=
  r_get hC ci j hF hk d (by unfold fv; rw [hr, hf, hv]; rfl) k
theorem r_getR (hC : Cx p s m args meth c Θ y cc nL ret) (ci j f : Nat) {idx a : Nat} (hF : Fl y.cls idx ci j) (hk : kd M a = ci + 1) (d : decode cc pc = .ok (.getfield idx, 3)) (hf : 32 * ci + j = f) (hr : isR (fty ci j) = true) {v : Option Nat} (hv : fR M f a = v) (k : Gj p l e R s m args below meth c Θ M L cells slots Q (pc + 3) (va_rf v :: rest)) : Gj p l e R s m args below meth c Θ M L cells slots Q pc (.ref a :: rest) :=
  r_get hC ci j hF hk d (by unfold fv; rw [hr, hf, hv]; rfl) k
theorem r_getS (hC : Cx p s m args meth c Θ y cc nL ret) (ci j f : Nat) {idx a : Nat} (hF : Fl y.cls idx ci j) (hk : kd M a = ci + 1) (d : decode cc pc = .ok (.getfield idx, 3)) (hf : 32 * ci + j = f) (hr : isR (fty ci j) = true) {v : Nat} (hv : fR M f a = some v) (k : Gj p l e R s m args below meth c Θ M L cells slots Q (pc + 3) (.ref v :: rest)) : Gj p l e R s m args below meth c Θ M L cells slots Q pc (.ref a :: rest) :=
  r_get hC ci j hF hk d (by unfold fv; rw [hr, hf, hv]; rfl) k
theorem up2_fld {α : Type} (f : Nat → Nat → α) {i a g b : Nat} (v : α) (h : b ≠ a) : up2 f i a v g b = f g b := up2_ne f v (fun q => h q.2)
/-- what a put of the value v into field j of the object a does: M' holds it -/
theorem put_rep {M' : Mem} {H H' : Heap} {ci j a : Nat} {r : vw_C} {v : Value} {cell : Cell} (hC : Cx p s m args meth c Θ y cc nL ret) (hR : Rep Θ M H) (hk : kd M a = ci + 1) (hc : classes[ci]? = some r) (hj : j < r.2.2) (q2 : cell.cls = Θ.D.1 ci) (q3 : cell.vm = .none) (q4 : ∀ k, k < r.2.2 → cell.slots[Θ.D.2 ci k]? = some (fv M ci k a))
    (h1 : H'[a]? = some (cell.setSlot (Θ.D.2 ci j) v)) (h2 : H'.size = H.size) (h3 : ∀ q : Nat, q ≠ a → H'[q]? = H[q]?)
    (e1 : kd M' = kd M) (e2 : ln M' = ln M) (e3 : eI M' = eI M) (e4 : eR M' = eR M) (e5 : ∀ g b : Nat, b ≠ a → fI M' g b = fI M g b) (e6 : ∀ g b : Nat, b ≠ a → fR M' g b = fR M g b)
    (e7 : fv M' ci j a = v) (e8 : ∀ i : Nat, i ≠ j → fv M' ci i a = fv M ci i a) : Rep Θ M' H' := by
  have hap := va_apart (own := y.cls) hC.2.2.2.2.1 (cls_ws ci r hc) (fty ci) (cls_ty ci r hc) (cls_nm ci r hc) hC.2.2.2.2.2.1.1 hc
  refine hR.setO hk hc h2 h3 e1 e2 e3 e4 e5 e6 (t_OB.to (V := updV (fun k => fv M ci k a) j v) ⟨_, h1, q2, q3, t_set q4 hap hj v⟩ fun i hi => ?_)
  by_cases hij : i = j
  · subst hij
    simp [updV, e7]
  · simp [updV, hij, e8 i hij]
theorem r_put {M' : Mem} (hC : Cx p s m args meth c Θ y cc nL ret) (ci j : Nat) {idx a : Nat} (hF : Fl y.cls idx ci j) (hnf : fnl ci j = false) (hk : kd M a = ci + 1) (d : decode cc pc = .ok (.putfield idx, 3)) {v : Value} (hn : narrow (fty ci j) v = v) (hfit : fits (fty ci j) v = true)
    (e1 : kd M' = kd M) (e2 : ln M' = ln M) (e3 : eI M' = eI M) (e4 : eR M' = eR M) (e5 : ∀ g b : Nat, b ≠ a → fI M' g b = fI M g b) (e6 : ∀ g b : Nat, b ≠ a → fR M' g b = fR M g b)
    (e7 : fv M' ci j a = v) (e8 : ∀ i : Nat, i ≠ j → fv M' ci i a = fv M ci i a)
    (k : Gj p l e R s m args below meth c Θ M' L cells slots Q (pc + 3) rest) : Gj p l e R s m args below meth c Θ M L cells slots Q pc (v :: .ref a :: rest) := by
  intro H locs ls hR hL hl
  obtain ⟨r, ref, hc, hj, hlk, hsm⟩ := hF
  obtain ⟨cell, q1, q2, q3, q4⟩ := hR.obj a ci r hk hc
  obtain ⟨hS, hfc, kC, hkC, hkind⟩ := hC.2.2.2.2.2.1.1.1 ci r hc
  obtain ⟨cf, kf, fi, f, hi, hsl⟩ := hS j hj
  have hst := (u_facts hfc hkC (u_lays hC.2.2.2.2.1 (cls_ws ci r hc) hj) hi).1
  have hsame := fl_same (ts := "") (idx := 0) (ci := ci) hC hsm _ hi
  have hlay := hC.2.2.2.2.1 _ (cls_ws ci r hc _ (u_in_lay hj))
  unfold u_lay at hlay
  rw [fnl_of hc] at hnf
  rw [if_neg (by rw [hnf]; decide)] at hlay
  have h6 := u_store hfc hkC hkind hlay hi (cls_ty ci r hc j hj) hn hfit
  have hlt := cls_lt hc
  have hma : Θ.B.size ≤ a := hR.mine (by omega) (by omega)
  have fin : ∀ H' : Heap, H'[a]? = some (cell.setSlot f.slot v) → H'.size = H.size → (∀ q, q ≠ a → H'[q]? = H[q]?) → W p l e R s m args below meth c H' (locs ++ [⟨a, f.slot⟩]) cells slots Q (F0 m (pc + 3) ls rest) := fun H' h1 h2 h3 => by
    rw [hsl] at h1
    exact k H' _ ls (put_rep hC hR hk hc hj q2 q3 q4 h1 h2 h3 e1 e2 e3 e4 e5 e6 e7 e8) (k2_locs hL hma) hl
  rcases hlk with hlk | ⟨host, hlk⟩
  · exact W.putK hC.1 hC.2.1 (f := f) ⟨hC.2.2.2.1, hC.2.2.2.2.1 _ hlk, ⟨_, _, _, hsame⟩, hst⟩ (by rw [q2]; exact h6) q1 q3 (by rw [hsl]; exact k2_hasslot (q4 j hj)) rfl rfl d fin
  · exact va_WputK hC.1 hC.2.1 (f := f) hC.2.2.2.1 (hC.2.2.2.2.1 _ hlk) hsame hst (by rw [q2]; exact h6) q1 q3 (by rw [hsl]; exact k2_hasslot (q4 j hj)) rfl rfl d fin
/-- a final field, in its constructor -/
theorem r_putF {M' : Mem} (hC : Cx p s m args meth c Θ y cc nL ret) (ci j : Nat) {idx a : Nat} (hF : Fl y.cls idx ci j) (hnf : fnl ci j = true) (hdl : decl ci j = y.cls) (hy : y.name = "<init>") (hk : kd M a = ci + 1) (d : decode cc pc = .ok (.putfield idx, 3)) {v : Value} (hn : narrow (fty ci j) v = v) (hfit : fits (fty ci j) v = true)
    (e1 : kd M' = kd M) (e2 : ln M' = ln M) (e3 : eI M' = eI M) (e4 : eR M' = eR M) (e5 : ∀ g b : Nat, b ≠ a → fI M' g b = fI M g b) (e6 : ∀ g b : Nat, b ≠ a → fR M' g b = fR M g b)
    (e7 : fv M' ci j a = v) (e8 : ∀ i : Nat, i ≠ j → fv M' ci i a = fv M ci i a)
    (k : Gj p l e R s m args below meth c Θ M' L cells slots Q (pc + 3) rest) : Gj p l e R s m args below meth c Θ M L cells slots Q pc (v :: .ref a :: rest) := by
  intro H locs ls hR hL hl
  obtain ⟨r, ref, hc, hj, hlk, hsm⟩ := hF
  obtain ⟨cell, q1, q2, q3, q4⟩ := hR.obj a ci r hk hc
  obtain ⟨hS, hfc, kC, hkC, hkind⟩ := hC.2.2.2.2.2.1.1.1 ci r hc
  obtain ⟨cf, kf, fi, f, hi, hsl⟩ := hS j hj
  have hst := (u_facts hfc hkC (u_lays hC.2.2.2.2.1 (cls_ws ci r hc) hj) hi).1
  have hsame := fl_same (ts := "") (idx := 0) (ci := ci) hC hsm _ hi
  have hlay := hC.2.2.2.2.1 _ (cls_ws ci r hc _ (u_in_lay hj))
  unfold u_lay at hlay
  rw [fnl_of hc] at hnf
  rw [decl_of hc] at hdl
  rw [if_pos hnf] at hlay
  have hcf : m.cls = cf := by
    obtain ⟨_, _, c', _, _, _, -, -, hf', -, -, -, hown2, -⟩ := Cond.laysFinal_spec hlay
    have e1 : c' = cf := by have := hi.symm.trans hf'; simp at this; exact this.1.symm
    rw [hdl] at hown2
    rw [← e1]; exact Option.some.inj (hC.2.2.2.1.symm.trans hown2)
  have h6 := u_fits hfc hkC hkind (Or.inr hlay) hi (cls_ty ci r hc j hj) hn hfit
  have hlt := cls_lt hc
  have hma : Θ.B.size ≤ a := hR.mine (by omega) (by omega)
  have fin : ∀ H' : Heap, H'[a]? = some (cell.setSlot f.slot v) → H'.size = H.size → (∀ q, q ≠ a → H'[q]? = H[q]?) → W p l e R s m args below meth c H' (locs ++ [⟨a, f.slot⟩]) cells slots Q (F0 m (pc + 3) ls rest) := fun H' h1 h2 h3 => by
    rw [hsl] at h1
    exact k H' _ ls (put_rep hC hR hk hc hj q2 q3 q4 h1 h2 h3 e1 e2 e3 e4 e5 e6 e7 e8) (k2_locs hL hma) hl
  rcases hlk with hlk | ⟨host, hlk⟩
  · exact W.putFinK hC.1 hC.2.1 hC.2.2.2.1 (hC.2.2.2.2.1 _ hlk) hsame hst hcf (hC.2.2.2.2.2.2.2.2.trans hy) (by rw [q2]; exact h6) q1 q3 (by rw [hsl]; exact k2_hasslot (q4 j hj)) rfl rfl d fin
  · refine va_Wputf hC.1 hC.2.1 hC.2.2.2.1 (hC.2.2.2.2.1 _ hlk) hsame hst (Or.inr ⟨hcf, hC.2.2.2.2.2.2.2.2.trans hy⟩) q1 (by rw [q3]; exact fun h => by cases h) (by rw [hsl]; exact k2_hasslot (q4 j hj)) h6.1 (by rw [q2, q3]; exact h6.2) rfl rfl d ?_
    have ha : a < H.size := (Array.getElem?_eq_some_iff.mp q1).1
    refine fin _ ?_ ?_ ?_
    · simp [Array.getElem?_setIfInBounds, ha]
    · simp
    · intro q hq
      simp [Array.getElem?_setIfInBounds, Ne.symm hq]
theorem fv_sI (ci j a : Nat) (v : Int32) (hr : isR (fty ci j) = false) : fv (sI M (32 * ci + j) a v) ci j a = .int v := by
  unfold fv
  rw [if_neg (by rw [hr]; decide)]
  show Value.int (up2 (fI M) (32 * ci + j) a v (32 * ci + j) a) = _
  rw [up2_self]
theorem fv_sI_ne (ci j a : Nat) (v : Int32) {i : Nat} (h : i ≠ j) : fv (sI M (32 * ci + j) a v) ci i a = fv M ci i a := by
  unfold fv
  show (if _ then va_rf (fR M _ a) else Value.int (up2 (fI M) (32 * ci + j) a v (32 * ci + i) a)) = _
  rw [up2_ne _ _ (fun q => h (by omega))]
theorem fv_sR (ci j a : Nat) (v : Option Nat) (hr : isR (fty ci j) = true) : fv (sR M (32 * ci + j) a v) ci j a = va_rf v := by
  unfold fv
  rw [if_pos hr]
  show va_rf (up2 (fR M) (32 * ci + j) a v (32 * ci + j) a) = _
  rw [up2_self]
theorem fv_sR_ne (ci j a : Nat) (v : Option Nat) {i : Nat} (h : i ≠ j) : fv (sR M (32 * ci + j) a v) ci i a = fv M ci i a := by
  unfold fv
  show (if _ then va_rf (up2 (fR M) (32 * ci + j) a v (32 * ci + i) a) else Value.int (fI M _ a)) = _
  rw [up2_ne _ _ (fun q => h (by omega))]
theorem r_putI (hC : Cx p s m args meth c Θ y cc nL ret) (ci j f : Nat) {idx a : Nat} (hF : Fl y.cls idx ci j) (hnf : fnl ci j = false) (hk : kd M a = ci + 1) (d : decode cc pc = .ok (.putfield idx, 3)) {v : Int32} (hf : 32 * ci + j = f) (hr : isR (fty ci j) = false) (hn : narrow (fty ci j) (.int v) = .int v) (hfit : fits (fty ci j) (.int v) = true)
    (k : Gj p l e R s m args below meth c Θ (sI M f a v) L cells slots Q (pc + 3) rest) : Gj p l e R s m args below meth c Θ M L cells slots Q pc (.int v :: .ref a :: rest) := by
  subst hf
  exact r_put (M' := sI M (32 * ci + j) a v) hC ci j hF hnf hk d hn hfit rfl rfl rfl rfl (fun g b h => up2_fld _ _ h) (fun _ _ _ => rfl) (fv_sI ci j a v hr) (fun i h => fv_sI_ne ci j a v h) k
theorem va_rf_fits {t : FieldType} (hr : isR t = true) (v : Option Nat) : narrow t (va_rf v) = va_rf v ∧ fits t (va_rf v) = true := by
  cases t <;> first | (simp [isR] at hr; done) | (cases v <;> exact ⟨rfl, rfl⟩)
theorem r_putR (hC : Cx p s m args meth c Θ y cc nL ret) (ci j f : Nat) {idx a : Nat} (hF : Fl y.cls idx ci j) (hnf : fnl ci j = false) (hk : kd M a = ci + 1) (d : decode cc pc = .ok (.putfield idx, 3)) {v : Option Nat} (hf : 32 * ci + j = f) (hr : isR (fty ci j) = true)
    (k : Gj p l e R s m args below meth c Θ (sR M f a v) L cells slots Q (pc + 3) rest) : Gj p l e R s m args below meth c Θ M L cells slots Q pc (va_rf v :: .ref a :: rest) := by
  subst hf
  exact r_put (M' := sR M (32 * ci + j) a v) hC ci j hF hnf hk d (va_rf_fits hr v).1 (va_rf_fits hr v).2 rfl rfl rfl rfl (fun _ _ _ => rfl) (fun g b h => up2_fld _ _ h) (fv_sR ci j a v hr) (fun i h => fv_sR_ne ci j a v h) k
theorem r_putFI (hC : Cx p s m args meth c Θ y cc nL ret) (ci j f : Nat) {idx a : Nat} (hF : Fl y.cls idx ci j) (hnf : fnl ci j = true) (hdl : decl ci j = y.cls) (hy : y.name = "<init>") (hk : kd M a = ci + 1) (d : decode cc pc = .ok (.putfield idx, 3)) {v : Int32} (hf : 32 * ci + j = f) (hr : isR (fty ci j) = false) (hn : narrow (fty ci j) (.int v) = .int v) (hfit : fits (fty ci j) (.int v) = true)
    (k : Gj p l e R s m args below meth c Θ (sI M f a v) L cells slots Q (pc + 3) rest) : Gj p l e R s m args below meth c Θ M L cells slots Q pc (.int v :: .ref a :: rest) := by
  subst hf
  exact r_putF (M' := sI M (32 * ci + j) a v) hC ci j hF hnf hdl hy hk d hn hfit rfl rfl rfl rfl (fun g b h => up2_fld _ _ h) (fun _ _ _ => rfl) (fv_sI ci j a v hr) (fun i h => fv_sI_ne ci j a v h) k
theorem r_putFR (hC : Cx p s m args meth c Θ y cc nL ret) (ci j f : Nat) {idx a : Nat} (hF : Fl y.cls idx ci j) (hnf : fnl ci j = true) (hdl : decl ci j = y.cls) (hy : y.name = "<init>") (hk : kd M a = ci + 1) (d : decode cc pc = .ok (.putfield idx, 3)) {v : Option Nat} (hf : 32 * ci + j = f) (hr : isR (fty ci j) = true)
    (k : Gj p l e R s m args below meth c Θ (sR M f a v) L cells slots Q (pc + 3) rest) : Gj p l e R s m args below meth c Θ M L cells slots Q pc (va_rf v :: .ref a :: rest) := by
  subst hf
  exact r_putF (M' := sR M (32 * ci + j) a v) hC ci j hF hnf hdl hy hk d (va_rf_fits hr v).1 (va_rf_fits hr v).2 rfl rfl rfl rfl (fun _ _ _ => rfl) (fun g b h => up2_fld _ _ h) (fv_sR ci j a v hr) (fun i h => fv_sR_ne ci j a v h) k
end RM
