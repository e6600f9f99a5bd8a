theorem BTu.fr {Z : Nat → Prop} {M N : Mem} {X : Nat} {A : BA} {G : GS} {un : Nat → Bool} (h : BTu M X A G un) (hf : Fr Z M N) (hz : ∀ g, g ≠ 12 → For M g Z) : BTu N X A G un ∧ Fr (BZ M) M N := by
  obtain ⟨hH, hRw, hGl, hNd⟩ := h
  exact ⟨⟨hH.fr hf (hz 10 (by omega)), fun i hi1 hin => (hRw i hi1 hin).fr hf (fun z => ((hz 10 (by omega)).2.2 _ z).1 (hRw i hi1 hin).1), hGl, fun k hk => (hNd k hk).fr hf (hz _ (by rw [hGl k hk]; omega))⟩, hf.mono (For.bz (hz 11 (by omega)))⟩
/-- a list of label 12 stays when what is foreign to 12 changes -/
theorem Lst.lb {Z : Nat → Prop} {M N : Mem} {a : Nat} {xs : List Nat} {cap : Nat} (h : Lst M a xs cap) (ho : ow M a = 12) (hf : Fr Z M N) (hz : For M 12 Z) : Lst N a xs cap ∧ ow N a = 12 ∧ fI N 194 a = fI M 194 a := by
  have hk := h.1
  have q := hf.2 a (by omega) (fun z => hz.1 _ z (by omega) ho)
  exact ⟨h.fr q (fun b hb => hf.2 b (by omega) (fun z => hz.2.1 b _ z hb hk ho)) (fun b hb => hf.2 b (by omega) (fun z => (hz.2.2 b z).2 hb)), q.2.2.2.2.2.2.trans ho, q.2.1 194⟩
theorem ItO.lb {Z : Nat → Prop} {M N : Mem} {t a c : Nat} (h : ItO M t a c) (ho : ow M t = 12) (ha : kd M a ≠ 0) (hza : ¬ Z a) (hf : Fr Z M N) (hz : ¬ Z t) : ItO N t a c ∧ ow N t = 12 := by
  have hk := h.1
  have q := hf.2 t (by omega) hz
  have qa := hf.2 a ha hza
  exact ⟨⟨q.1.trans h.1, (q.2.2.1 227).trans h.2.1, (q.2.1 224).trans h.2.2.1, by rw [q.2.1 226, qa.2.1 194]; exact h.2.2.2⟩, q.2.2.2.2.2.2.trans ho⟩
theorem z_it {M : Mem} {t : Nat} (hk : kd M t = 8) (ho : ow M t = 12) : ∀ g, g ≠ 12 → For M g (fun b => b = t) := fun g hg => ⟨fun b z _ => by have z : b = t := z; rw [z, ho]; exact Ne.symm hg, fun b a z h1 _ => by have z : b = t := z; rw [z] at h1; omega, fun b z => by have z : b = t := z; rw [z]; omega⟩
theorem z_ls {M : Mem} {t : Nat} (hk : kd M t = 7) (ho : ow M t = 12) : ∀ g, g ≠ 12 → For M g (fun b => b = t ∨ kd M b = 1000 + t) := fun g hg => by
  refine ⟨fun b z hkb => ?_, fun b a z hkb hka => ?_, fun b z => ?_⟩
  · rcases z with z | z
    · rw [z, ho]; exact Ne.symm hg
    · omega
  · rcases z with z | z
    · rw [z] at hkb; omega
    · have : a = t := by omega
      rw [this, ho]; exact Ne.symm hg
  · rcases z with z | z
    · rw [z]; omega
    · omega
/-- meet's state: the component, the list of lacking rows -/
def MS (M M1 : Mem) (X : Nat) (A : BA) (G : GS) (K : Nat) (xs : List Nat) : Prop := BT M1 X A G ∧ Fr (BZ M) M M1 ∧ Lst M1 K (xs.map (bR A)) (capL xs.length) ∧ ow M1 K = 12
theorem meet_go {l : Launch} {Θ : Glob} {p : Program} {e : Env} {s : State} {m : MethodId} {args : Array Value} {below : List Frame} {meth : Method} {c : Code} (hC : Cx p s m args meth c Θ y_Bmeet b_Bmeet 7 (some .int)) {M : Mem} {X K T k o : Nat} (hk : k < 4) {R : Nat → RowT} {ra : Nat → Nat} {xs : List Nat} {GF : GS} {nn : Nat} (hxl : xs.length ≤ 300) {PP : Option Value → Mem → Prop}
    (fin : ∀ (N : Mem) (A : BA), BT N X A GF → Fr (BZ M) M N → PP (some (.int (nI xs.length))) N) :
    ∀ (l2 l1 : List Nat) (M1 : Mem) (A : BA) (G : GS) (cl sl : Nat) (w5 w6 : Option Value), xs = l1 ++ l2 → bR A = ra → qR G = R → MS M M1 X A G K xs → GI G → lsOk G k l2 → gLs G k l2 = GF → ItO M1 T K l1.length → ow M1 T = 12 → cl + l2.length + pC (qD G k) ≤ 600 → sl + 7 * l2.length + pS (qD G k) ≤ 10000 → Gj p l e (rmo 19 600 10000) s m args below meth c Θ M1 [some (.ref X), some (.int (nI k)), some (.int (nI o)), some (.ref K), some (.ref T), w5, w6] cl sl (Fn below args s Θ 600 10000 PP) 154 [] := by
  intro l2
  induction l2 with
  | nil =>
    intro l1 M1 A G cl sl w5 w6 hxs hra hR hS hG hok hF hI hoT hcl hsl
    rw [List.append_nil] at hxs
    obtain ⟨hB, hFr, hL, hoK⟩ := hS
    have hsz := hL.len
    rw [List.length_map] at hsz
    have hF : G = GF := hF
    subst hF
    refine r_aload hC 4 d_Bmeet_154 rfl ?_
    refine r_cF hC [] rfl (c_IhasNext l Θ M1 T K l1.length _ _ hI hL (by rw [List.length_map, hxs]; exact Nat.le_refl _)) mi_IhasNext fc_hasNext (ci := 7) rfl (by exact hI.1) rfl (Nat.le_of_ble_eq_true rfl) ⟨Nat.le_of_ble_eq_true rfl, Nat.le_of_ble_eq_true rfl⟩ ⟨by show cl + 0 ≤ 600; omega, by show sl + 0 ≤ 10000; omega⟩ d_Bmeet_156 (fun v M8 hv8 => ?_)
    obtain ⟨r, rfl, rfl, rfl⟩ := hv8
    rw [List.length_map, hxs, decide_eq_false (by omega)]
    refine r_if_eq hC 190 d_Bmeet_161 (by decide) (fun _ => ?_) (fun z => absurd rfl z)
    rw [hxs] at hsz hL
    refine r_aload_n hC 3 d_Bmeet_190 rfl rfl ?_
    refine r_cVi hC [] rfl (c_Asize l Θ M8 K hL.1) mi_Asize lk_B33 in_Asize (ci := 6) rfl rfl (by exact hL.1) rfl (Nat.le_of_ble_eq_true rfl) ⟨Nat.le_of_ble_eq_true rfl, Nat.le_of_ble_eq_true rfl⟩ ⟨by show cl + 0 + 0 ≤ 600; omega, by show sl + 0 + 0 ≤ 10000; omega⟩ d_Bmeet_191 (fun r M9 h9 => ?_)
    obtain ⟨rfl, rfl⟩ := h9
    rw [hsz]
    exact r_iret hC d_Bmeet_194 (by show cl + 0 + 0 ≤ 600; omega) (by show sl + 0 + 0 ≤ 10000; omega) (by rw [← hxs]; exact fin M9 A hB hFr)
  | cons j l2 ih =>
    intro l1 M1 A G cl sl w5 w6 hxs hra hR hS hG hok hF hI hoT hcl hsl
    obtain ⟨hB, hFr, hL, hoK⟩ := hS
    have hB0 := hB
    have hcl : cl + (l2.length + 1) + pC (qD G k) ≤ 600 := hcl
    have hsl : sl + 7 * (l2.length + 1) + pS (qD G k) ≤ 10000 := hsl
    obtain ⟨j1, j2, j3⟩ := hok.2 j List.mem_cons_self
    have hgj : xs[l1.length]? = some j := by rw [hxs]; simp
    have hgm : (xs.map (bR A))[l1.length]? = some (bR A j) := map_get hgj
    have hl1 : l1.length < xs.length := by rw [hxs]; simp
    refine r_aload hC 4 d_Bmeet_154 rfl ?_
    refine r_cF hC [] rfl (c_IhasNext l Θ M1 T K l1.length _ _ hI hL (by rw [List.length_map]; omega)) mi_IhasNext fc_hasNext (ci := 7) rfl (by exact hI.1) rfl (Nat.le_of_ble_eq_true rfl) ⟨Nat.le_of_ble_eq_true rfl, Nat.le_of_ble_eq_true rfl⟩ ⟨by show cl + 0 ≤ 600; omega, by show sl + 0 ≤ 10000; omega⟩ d_Bmeet_156 (fun v M8 hv8 => ?_)
    obtain ⟨r, rfl, rfl, rfl⟩ := hv8
    rw [List.length_map, decide_eq_true hl1]
    refine r_if_eq hC 190 d_Bmeet_161 (by decide) (fun z => absurd z i10) (fun _ => ?_)
    refine r_aload hC 4 d_Bmeet_164 rfl ?_
    refine r_cF hC [] rfl (c_Inext l Θ M8 T K l1.length _ _ (bR A j) hI hL hgm) mi_Inext fc_next (ci := 7) rfl (by exact hI.1) rfl (Nat.le_of_ble_eq_true rfl) ⟨Nat.le_of_ble_eq_true rfl, Nat.le_of_ble_eq_true rfl⟩ ⟨by show cl + 0 + 0 ≤ 600; omega, by show sl + 0 + 0 ≤ 10000; omega⟩ d_Bmeet_166 (fun v M9 hv9 => ?_)
    obtain ⟨r, rfl, rfl, hI9, f9⟩ := hv9
    have hkT := hI.1
    have hkK := hL.1
    have hB9 := BTu.fr hB f9 (z_it hkT hoT)
    have hL9 := hL.fr (f9.2 K (by omega) (one_ne hkK hkT (by omega))) (fun b hb => f9.2 b (by omega) (one_ne hb hkT (by omega))) (fun b hb => f9.2 b (by omega) (one_ne hb hkT (by omega)))
    have hoK9 : ow M9 K = 12 := (f9.1 K (by omega)).2.trans hoK
    have hoT9 : ow M9 T = 12 := (f9.1 T (by omega)).2.trans hoT
    have hF9 := hFr.trans hB9.2 (BZ.old hFr)
    obtain ⟨⟨⟨a1, a2, a3, a4, a5, a6⟩, -, ⟨c1, c2, c3, c4⟩, -⟩, hRw, hGl, hNd⟩ := id hB9.1
    have hr := hRw j j1 j2
    have hT := (hNd k hk).1.1.1
    have hni := hG.2.2.1 k hk
    have hpt := lrn_pot (R := qR G) (N := qD G k) (j := j) (NI.len hG.1 hni j1 j2 j3)
    refine r_cast hC 2 rfl hr.1 cl_B37 ca_RR d_Bmeet_171 ?_
    refine r_as5 hC d_Bmeet_174 ?_
    refine r_aload_n hC 0 d_Bmeet_176 rfl rfl ?_
    refine r_getS hC 0 1 1 fl_B18 (by exact a1) d_Bmeet_177 rfl rfl (by exact a4) ?_
    refine r_iload_n hC 1 d_Bmeet_180 rfl rfl ?_
    refine r_aaldS hC 5 k (by rw [c1]; rfl) (by omega) rfl (by rw [c3]; exact hk) (by rw [c3]; omega) d_Bmeet_181 (c4 k hk) ?_
    refine r_aload hC 5 d_Bmeet_182 rfl ?_
    refine r_cVv hC [.ref (bR A j)] rfl (c_Tlearn l Θ M9 (bD A k) _ (qN G) hG.1 (bR A) (bS A k) (qD G k) hni (hNd k hk) j j1 j2 j3 hr _ _ (Nat.le_refl _) (Nat.le_refl _)) mi_Tlearn lk_B49 in_Tlearn (ci := 4) rfl rfl (by exact hT.1) rfl (Nat.le_of_ble_eq_true rfl) ⟨Nat.le_of_ble_eq_true rfl, Nat.le_of_ble_eq_true rfl⟩ ⟨by show cl + 0 + 0 + (1 + (pC (qD G k) - pC (lrn (qR G) (qD G k) j))) ≤ 600; omega, by show sl + 0 + 0 + (7 + (pS (qD G k) - pS (lrn (qR G) (qD G k) j))) ≤ 10000; omega⟩ d_Bmeet_184 (fun M5 h5 => ?_)
    obtain ⟨q5, hN5, f5⟩ := h5
    have hB5 := BTu.learn hB9.1 hk hN5 f5
    have hz12 : For M9 12 (LZ M9 (bD A k)) := LZ.lb (hNd k hk) (by rw [hGl k hk]; omega)
    have hL5 := Lst.lb hL9 hoK9 f5 hz12
    have hkT9 := hI9.1
    have hkK9 := hL9.1
    have hI5 := hI9.lb hoT9 (by omega) (fun z => hz12.1 _ z (by omega) hoK9) f5 (fun z => hz12.1 _ z (by omega) hoT9)
    have hdk : qD (gLrn G k j) k = lrn (qR G) (qD G k) j := va_up_self _ _ _
    refine r_goto hC 154 d_Bmeet_187 (by decide) ?_
    refine ih (l1 ++ [j]) M5 (bL A, bT A, bU A, bR A, bD A, va_up (bS A) k (va_up (bS A k) j q5)) (gLrn G k j) _ _ _ _ (by rw [hxs]; simp) hra hR ⟨hB5.1, hF9.trans hB5.2 (BZ.old hF9), hL5.1, hL5.2.1⟩ (hG.lrn hk j1 j2 j3) hok.next hF ?_ hI5.2 ?_ ?_
    · rw [List.length_append]; exact hI5.1
    · rw [hdk]; omega
    · rw [hdk]; omega
