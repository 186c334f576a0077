set_option maxRecDepth 100000
/-! instructions that read and write the heap -/
section GHEAP
variable {p : Program} {l : Launch} {e : Env} {R : Room} {s : State} {m : MethodId} {args : Array Value} {below : List Frame} {meth : Method} {c : Code} {cc : ByteArray} {own : String} {nL : Nat} {ret : Option FieldType} {yn : String} {E : GE} {Q : State → Prop} {pc : Nat} {L : List (Option Value)} {st : List Value} {h : HV} {cells slots : Nat}
/-- a cell of h is in the list, or a constant -/
theorem HP.case {h : HV} {ws : va_W} (h3 : ∀ (a : Nat) (c : Nat × va_E), h a = some c → (a, c.2) ∈ ws ∨ (c.1 = 0 ∧ gRO E a c.2)) {a lab : Nat} {x : va_E} (ha : h a = some (lab, x)) : (∃ q0 : Nat, ws[q0]? = some (a, x)) ∨ (lab = 0 ∧ gRO E a x) := by
  rcases h3 a _ ha with hm | hr
  · exact Or.inl (List.getElem?_of_mem hm)
  · exact Or.inr hr
/-- the cells behind a write -/
theorem HP.set {h : HV} {ws : va_W} (hD : va_D (gA E) ws) (h3 : ∀ (a : Nat) (c : Nat × va_E), h a = some c → (a, c.2) ∈ ws ∨ (c.1 = 0 ∧ gRO E a c.2)) {a lab q0 : Nat} {x y : va_E} (hq : ws[q0]? = some (a, x)) :
    ∀ (b : Nat) (c : Nat × va_E), hup h a (lab, y) b = some c → (b, c.2) ∈ ws.set q0 (a, y) ∨ (c.1 = 0 ∧ gRO E b c.2) := by
  have hl := (List.getElem?_eq_some_iff.mp hq).1
  intro b c hb
  rcases hup_at hb with ⟨rfl, rfl⟩ | ⟨hne, hb⟩
  · exact Or.inl (List.mem_of_getElem? (i := q0) (List.getElem?_set_self hl))
  · rcases h3 b c hb with hm | hr
    · obtain ⟨j, hj⟩ := List.getElem?_of_mem hm
      have hjq : q0 ≠ j := by
        intro z
        subst z
        rw [hq] at hj
        cases hj
        exact hne rfl
      exact Or.inl (List.mem_of_getElem? (i := j) (by rw [List.getElem?_set_ne hjq]; exact hj))
    · exact Or.inr hr
/-- the cells with a new one -/
theorem HP.push {h : HV} {ws : va_W} (h3 : ∀ (a : Nat) (c : Nat × va_E), h a = some c → (a, c.2) ∈ ws ∨ (c.1 = 0 ∧ gRO E a c.2)) {a lab : Nat} {y : va_E} :
    ∀ (b : Nat) (c : Nat × va_E), hup h a (lab, y) b = some c → (b, c.2) ∈ ws ++ [(a, y)] ∨ (c.1 = 0 ∧ gRO E b c.2) := by
  intro b c hb
  rcases hup_at hb with ⟨rfl, rfl⟩ | ⟨hne, hb⟩
  · exact Or.inl (List.mem_append_right _ List.mem_cons_self)
  · rcases h3 b c hb with hm | hr
    · exact Or.inl (List.mem_append_left _ hm)
    · exact Or.inr hr
theorem gRO_lt {H : Heap} (hH : gH E s H) {a : Nat} {x : va_E} (hr : gRO E a x) : a < gB E := by
  obtain ⟨-, -, -, -, ⟨_, -, -, -, h0⟩, -, -, ⟨_, -, -, -, -, -, -, h1⟩, ⟨_, -, -, -, -, -, -, h2⟩, -⟩ := hH
  rcases hr with ⟨rfl, -⟩ | ⟨rfl, -⟩ | ⟨rfl, -⟩
  · exact Nat.lt_of_not_le h0
  · exact Nat.lt_of_not_le h1
  · exact Nat.lt_of_not_le h2
/-- an address that the heap doesn't reach yet is not among the cells -/
theorem HP.fresh {h : HV} {ws : va_W} {H : Heap} {q : Nat} (hH : gH E s s.heap) (hz : gB E ≤ H.size) (hP : va_P E.1 vwCl ws H) (h3 : ∀ (a : Nat) (c : Nat × va_E), h a = some c → (a, c.2) ∈ ws ∨ (c.1 = 0 ∧ gRO E a c.2)) (hq : H.size ≤ q) : h q = none := by
  cases hv : h q with
  | none => rfl
  | some c =>
    exfalso
    rcases h3 q c hv with hm | ⟨-, hr⟩
    · obtain ⟨j, hj⟩ := List.getElem?_of_mem hm
      have := (hP j _ hj).lt
      omega
    · have := gRO_lt hH hr
      omega
theorem HP.fresh2 {h : HV} {ws : va_W} {a : Nat} {y : va_E} (hH : gH E s s.heap) (hD1 : va_D (gA E) (ws ++ [(a, y)])) (h3 : ∀ (a : Nat) (c : Nat × va_E), h a = some c → (a, c.2) ∈ ws ∨ (c.1 = 0 ∧ gRO E a c.2)) : h a = none ∧ gB E ≤ a := by
  have hl' : (ws ++ [(a, y)])[ws.length]? = some (a, y) := by simp
  have hb : gB E ≤ a := hD1.2 ws.length _ hl'
  refine ⟨?_, hb⟩
  cases hv : h a with
  | none => rfl
  | some c =>
    exfalso
    rcases h3 a c hv with hm | ⟨-, hr⟩
    · obtain ⟨j, hj⟩ := List.getElem?_of_mem hm
      have hlt := (List.getElem?_eq_some_iff.mp hj).1
      have hj' : (ws ++ [(a, y)])[j]? = some (a, c.2) := by rw [List.getElem?_append_left hlt]; exact hj
      have := hD1.1 j ws.length _ _ hj' hl' rfl
      omega
    · have := gRO_lt hH hr
      omega
theorem gRO_arr {a n : Nat} {cA : ClassId} {x : (Nat → Int32) ⊕ (Nat → Int64) ⊕ (Nat → UInt32) ⊕ (Nat → UInt64) ⊕ (Nat → Option Nat)} (hr : gRO E a (.inl (cA, n, x))) : n = 0 := by
  rcases hr with ⟨-, u, w, he⟩ | ⟨-, he⟩ | ⟨-, he⟩
  · cases he
  · exact congrArg (fun q => q.2.1) (Sum.inl.inj he)
  · exact congrArg (fun q => q.2.1) (Sum.inl.inj he)
theorem g_get (O : OK p s m args meth c cc own nL ret yn E) {a lab : Nat} {fs : List Value} {v : Value} {index N : Nat} {ref C : String} {T : u_T} (ci k : Nat) (hc : vwCl[ci]? = some (C, T, N)) (ha : h a = some (lab, .inr (ci, fs))) (d : decode cc pc = .ok (.getfield index, 3)) (q : Cond.fieldLink own index ref (T k).2.1 (T k).2.2.1 ∈ lw_all) (hs : (T k).1 = ref) (hk : k < N) (hv : fs[k]? = some v) (hro : decide (ci = 15 ∧ 2 ≤ k) = false)
    (kk : Wg p l e R s m args below meth c E Q (pc + 3) L (v :: st) h cells slots) : Wg p l e R s m args below meth c E Q pc L (.ref a :: st) h cells slots := by
  intro H locs ls hP hS hl
  have K := kk H locs ls hP hS hl
  obtain ⟨ws, h1, h2, h3⟩ := hP
  rcases HP.case h3 ha with ⟨q0, hq⟩ | ⟨-, hr⟩
  · exact va_get O.x O.b O.ts (vw_in hc) O.ow O.K h1 q0 hq hc k hk (O.ts _ q) (fun x hx => by rw [← hs]; exact hx) hv d K
  · rcases hr with ⟨rfl, u, w, he⟩ | ⟨-, he⟩ | ⟨-, he⟩
    · cases he
      cases hc
      obtain ⟨-, -, -, -, -, hcod, hval, -⟩ := O.h
      have hk2 : k < 2 := by
        rcases Nat.lt_or_ge k 2 with z | z
        · exact z
        · exact absurd hro (by simp [kString, z])
      match k, hk2 with
      | 0, _ => cases hv; exact vk_getf O.x O.b hval hS O.ow (O.ts _ q) (fun x hx => by rw [← hs]; exact hx) d K
      | 1, _ => cases hv; exact vk_getf O.x O.b hcod hS O.ow (O.ts _ q) (fun x hx => by rw [← hs]; exact hx) d K
    · cases he
    · cases he
/-- a field that is declared above the class by which it is named -/
theorem g_getI (O : OK p s m args meth c cc own nL ret yn E) {a lab : Nat} {fs : List Value} {v : Value} {index N : Nat} {ref C : String} {T : u_T} (ci k : Nat) (hc : vwCl[ci]? = some (C, T, N)) (ha : h a = some (lab, .inr (ci, fs))) (d : decode cc pc = .ok (.getfield index, 3)) (q : Cond.fieldLink own index ref (T k).2.1 (T k).2.2.1 ∈ lw_all) (hs : Cond.sameField ref (T k).1 (T k).2.1 (T k).2.2.1 ∈ lw_all) (hk : k < N) (hv : fs[k]? = some v) (hro : decide (ci = 15) = false)
    (kk : Wg p l e R s m args below meth c E Q (pc + 3) L (v :: st) h cells slots) : Wg p l e R s m args below meth c E Q pc L (.ref a :: st) h cells slots := by
  intro H locs ls hP hS hl
  have K := kk H locs ls hP hS hl
  obtain ⟨ws, h1, h2, h3⟩ := hP
  rcases HP.case h3 ha with ⟨q0, hq⟩ | ⟨-, hr⟩
  · exact va_get O.x O.b O.ts (vw_in hc) O.ow O.K h1 q0 hq hc k hk (O.ts _ q) (fun x hx => u_same (O.ts _ hs) x hx) hv d K
  · rcases hr with ⟨rfl, u, w, he⟩ | ⟨-, he⟩ | ⟨-, he⟩
    · cases he
      exact absurd hro (by simp [kString])
    · cases he
    · cases he
/-- a nest mate's field -/
theorem g_getN (O : OK p s m args meth c cc own nL ret yn E) {a lab : Nat} {fs : List Value} {v : Value} {index N : Nat} {ref C host : String} {T : u_T} (ci k : Nat) (hc : vwCl[ci]? = some (C, T, N)) (ha : h a = some (lab, .inr (ci, fs))) (d : decode cc pc = .ok (.getfield index, 3)) (q : Cond.fieldLinkNest own index ref (T k).2.1 (T k).2.2.1 host ∈ lw_tbl) (hs : (T k).1 = ref) (hk : k < N) (hv : fs[k]? = some v) (hro : decide (ci = 15) = false)
    (kk : Wg p l e R s m args below meth c E Q (pc + 3) L (v :: st) h cells slots) : Wg p l e R s m args below meth c E Q pc L (.ref a :: st) h cells slots := by
  intro H locs ls hP hS hl
  have K := kk H locs ls hP hS hl
  obtain ⟨ws, h1, h2, h3⟩ := hP
  rcases HP.case h3 ha with ⟨q0, hq⟩ | ⟨-, hr⟩
  · exact va_getN O.x O.b O.ts (vw_in hc) O.ow O.K h1 q0 hq hc k hk (O.spec q rfl) (fun x hx => by rw [← hs]; exact hx) hv d K
  · rcases hr with ⟨rfl, u, w, he⟩ | ⟨-, he⟩ | ⟨-, he⟩
    · cases he
      exact absurd hro (by simp [kString])
    · cases he
    · cases he
/-- what a written object's cell needs: it is not a constant -/
theorem HP.mut {h : HV} {ws : va_W} (h3 : ∀ (a : Nat) (c : Nat × va_E), h a = some c → (a, c.2) ∈ ws ∨ (c.1 = 0 ∧ gRO E a c.2)) {a lab : Nat} {x : va_E} (ha : h a = some (lab, x)) (hn : lab ≠ 0) : ∃ q0 : Nat, ws[q0]? = some (a, x) := by
  rcases HP.case h3 ha with z | ⟨z, -⟩
  · exact z
  · exact absurd z hn
theorem g_put (O : OK p s m args meth c cc own nL ret yn E) {a lab : Nat} {fs : List Value} {v : Value} {index N : Nat} {ref C : String} {T : u_T} (ci k : Nat) (hc : vwCl[ci]? = some (C, T, N)) (ha : h a = some (lab, .inr (ci, fs))) (hn : lab ≠ 0) (d : decode cc pc = .ok (.putfield index, 3)) (q : Cond.fieldLink own index ref (T k).2.1 (T k).2.2.1 ∈ lw_all) (hs : (T k).1 = ref) (hk : k < N) (hfin : (T k).2.2.2 = false) (hnar : narrow (gty ci k) v = v) (hfit : fits (gty ci k) v = true) (hl0 : k < fs.length)
    (kk : Wg p l e R s m args below meth c E Q (pc + 3) L st (hup h a (lab, .inr (ci, fs.set k v))) cells slots) : Wg p l e R s m args below meth c E Q pc L (v :: .ref a :: st) h cells slots := by
  intro H locs ls hP hS hl
  obtain ⟨ws, h1, h2, h3⟩ := hP
  obtain ⟨q0, hq⟩ := HP.mut h3 ha hn
  exact va_put O.x O.b O.ts (vw_in hc) (gty ci) (vw_ty hc) (vw_nm hc) O.ow O.K h1 h2 hS q0 hq hc k hk (O.ts _ q) (fun x hx => by rw [← hs]; exact hx) hfin (vw_ty hc k hk) hnar hfit hl0 d (fun H1 locs1 hP1 hD1 hS1 => kk H1 locs1 ls ⟨_, hP1, hD1, HP.set h2 h3 hq⟩ hS1 hl)
theorem g_putI (O : OK p s m args meth c cc own nL ret yn E) {a lab : Nat} {fs : List Value} {v : Value} {index N : Nat} {ref C : String} {T : u_T} (ci k : Nat) (hc : vwCl[ci]? = some (C, T, N)) (ha : h a = some (lab, .inr (ci, fs))) (hn : lab ≠ 0) (d : decode cc pc = .ok (.putfield index, 3)) (q : Cond.fieldLink own index ref (T k).2.1 (T k).2.2.1 ∈ lw_all) (hs : Cond.sameField ref (T k).1 (T k).2.1 (T k).2.2.1 ∈ lw_all) (hk : k < N) (hfin : (T k).2.2.2 = false) (hnar : narrow (gty ci k) v = v) (hfit : fits (gty ci k) v = true) (hl0 : k < fs.length)
    (kk : Wg p l e R s m args below meth c E Q (pc + 3) L st (hup h a (lab, .inr (ci, fs.set k v))) cells slots) : Wg p l e R s m args below meth c E Q pc L (v :: .ref a :: st) h cells slots := by
  intro H locs ls hP hS hl
  obtain ⟨ws, h1, h2, h3⟩ := hP
  obtain ⟨q0, hq⟩ := HP.mut h3 ha hn
  exact va_put O.x O.b O.ts (vw_in hc) (gty ci) (vw_ty hc) (vw_nm hc) O.ow O.K h1 h2 hS q0 hq hc k hk (O.ts _ q) (fun x hx => u_same (O.ts _ hs) x hx) hfin (vw_ty hc k hk) hnar hfit hl0 d (fun H1 locs1 hP1 hD1 hS1 => kk H1 locs1 ls ⟨_, hP1, hD1, HP.set h2 h3 hq⟩ hS1 hl)
/-- a final field, in a constructor -/
theorem g_putF (O : OK p s m args meth c cc own nL ret "<init>" E) {a lab : Nat} {fs : List Value} {v : Value} {index N : Nat} {ref C : String} {T : u_T} (ci k : Nat) (hc : vwCl[ci]? = some (C, T, N)) (ha : h a = some (lab, .inr (ci, fs))) (hn : lab ≠ 0) (d : decode cc pc = .ok (.putfield index, 3)) (q : Cond.fieldLink own index ref (T k).2.1 (T k).2.2.1 ∈ lw_all) (hs : (T k).1 = ref) (hk : k < N) (hfin : (T k).2.2.2 = true) (hdecl : (T k).1 = own) (hnar : narrow (gty ci k) v = v) (hfit : fits (gty ci k) v = true) (hl0 : k < fs.length)
    (kk : Wg p l e R s m args below meth c E Q (pc + 3) L st (hup h a (lab, .inr (ci, fs.set k v))) cells slots) : Wg p l e R s m args below meth c E Q pc L (v :: .ref a :: st) h cells slots := by
  intro H locs ls hP hS hl
  obtain ⟨ws, h1, h2, h3⟩ := hP
  obtain ⟨q0, hq⟩ := HP.mut h3 ha hn
  exact va_putF O.x O.b O.ts (vw_in hc) (gty ci) (vw_ty hc) (vw_nm hc) O.ow O.K h1 h2 hS q0 hq hc k hk (O.ts _ q) (fun x hx => by rw [← hs]; exact hx) hfin O.nm hdecl (vw_ty hc k hk) hnar hfit hl0 d (fun H1 locs1 hP1 hD1 hS1 => kk H1 locs1 ls ⟨_, hP1, hD1, HP.set h2 h3 hq⟩ hS1 hl)
/-- new -/
theorem g_new (O : OK p s m args meth c cc own nL ret yn E) {index N mc ms lev : Nat} {C : String} {T : u_T} (lab ci : Nat) (fs : List Value) (hc : vwCl[ci]? = some (C, T, N)) (d : decode cc pc = .ok (.new index, 3)) (q1 : Cond.classLink own index C ∈ lw_all) (q2 : Cond.instantiable C N ∈ lw_all) (q3 : Cond.initialized C ∈ lw_all) (hfs : (List.range N).map (fun j => defaultValue (gty ci j)) = fs) (hcells : cells + 1 ≤ mc) (hslots : slots + N ≤ ms)
    (kk : ∀ a : Nat, h a = none → Wg p l e (rmG lev mc ms) s m args below meth c E Q (pc + 3) L (.ref a :: st) (hup h a (lab, .inr (ci, fs))) (cells + 1) (slots + N)) : Wg p l e (rmG lev mc ms) s m args below meth c E Q pc L st h cells slots := by
  intro H locs ls hP hS hl
  obtain ⟨ws, h1, h2, h3⟩ := hP
  have hfs' : ∀ j, j < N → defaultValue (gty ci j) = vp_V fs j := fun j hj => by
    rw [← hfs]
    simp [vp_V, List.getD, hj]
  refine va_new O.x O.b O.ts (vw_in hc) (gty ci) (vw_ty hc) O.ow (O.ts _ q1) (O.ts _ q2) (O.ts _ q3) O.K h1 h2 hS O.fw hc hfs' hcells hslots d (fun a H1 hP1 hD1 hS1 => ?_)
  exact kk a (HP.fresh2 O.h hD1 h3).1 H1 locs ls ⟨_, hP1, hD1, HP.push h3⟩ hS1 hl
/-- arraylength -/
theorem g_alen (O : OK p s m args meth c cc own nL ret yn E) {a lab n : Nat} (t0 : Nat) {cA : ClassId} {ty : FieldType} {x : (Nat → Int32) ⊕ (Nat → Int64) ⊕ (Nat → UInt32) ⊕ (Nat → UInt64) ⊕ (Nat → Option Nat)} (ht : (gtys E)[t0]? = some (cA, ty)) (ha : h a = some (lab, .inl (cA, n, x))) (d : decode cc pc = .ok (.arraylength, 1))
    (kk : Wg p l e R s m args below meth c E Q (pc + 1) L (.int (nI n) :: st) h cells slots) : Wg p l e R s m args below meth c E Q pc L (.ref a :: st) h cells slots := by
  intro H locs ls hP hS hl
  have K := kk H locs ls hP hS hl
  obtain ⟨ws, h1, h2, h3⟩ := hP
  rcases HP.case h3 ha with ⟨q0, hq⟩ | ⟨-, hr⟩
  · exact va_alen O.x O.b O.K h1 q0 t0 hq ht rfl d K
  · obtain ⟨-, -, -, -, -, -, -, hT1, hT2, -⟩ := O.h
    rcases hr with ⟨rfl, u, w, he⟩ | ⟨rfl, he⟩ | ⟨rfl, he⟩
    · cases he
    · cases he
      exact va_tlen O.x O.b hT1 hS rfl d K
    · cases he
      exact va_tlen O.x O.b hT2 hS rfl d K
theorem g_iald (O : OK p s m args meth c cc own nL ret yn E) {a lab n : Nat} {f : Nat → Int32} {i : Int32} (j : Nat) (hi : i = nI j) (hj : j < n) (hn : n < 2 ^ 31) (ha : h a = some (lab, .inl (aI E, n, .inl f))) (d : decode cc pc = .ok (.iaload, 1))
    (kk : Wg p l e R s m args below meth c E Q (pc + 1) L (.int (f j) :: st) h cells slots) : Wg p l e R s m args below meth c E Q pc L (.int i :: .ref a :: st) h cells slots := by
  subst hi
  intro H locs ls hP hS hl
  have K := kk H locs ls hP hS hl
  obtain ⟨ws, h1, h2, h3⟩ := hP
  rcases HP.case h3 ha with ⟨q0, hq⟩ | ⟨-, hr⟩
  · have hin : vp_in (nI j) n := vp_in_nI hj hn
    refine va_iald O.x O.b O.K h1 q0 0 hq rfl hin d ?_
    rw [nI_clamp (Nat.lt_trans hj hn)]
    exact K
  · exact absurd (gRO_arr hr) (Nat.ne_of_gt (Nat.lt_of_le_of_lt (Nat.zero_le _) hj))
theorem g_lald (O : OK p s m args meth c cc own nL ret yn E) {a lab n : Nat} {f : Nat → Int64} {i : Int32} (j : Nat) (hi : i = nI j) (hj : j < n) (hn : n < 2 ^ 31) (ha : h a = some (lab, .inl (aJ E, n, .inr (.inl f)))) (d : decode cc pc = .ok (.laload, 1))
    (kk : Wg p l e R s m args below meth c E Q (pc + 1) L (.long (f j) :: st) h cells slots) : Wg p l e R s m args below meth c E Q pc L (.int i :: .ref a :: st) h cells slots := by
  subst hi
  intro H locs ls hP hS hl
  have K := kk H locs ls hP hS hl
  obtain ⟨ws, h1, h2, h3⟩ := hP
  rcases HP.case h3 ha with ⟨q0, hq⟩ | ⟨-, hr⟩
  · have hin : vp_in (nI j) n := vp_in_nI hj hn
    refine va_lald O.x O.b O.K h1 q0 1 hq rfl hin d ?_
    rw [nI_clamp (Nat.lt_trans hj hn)]
    exact K
  · exact absurd (gRO_arr hr) (Nat.ne_of_gt (Nat.lt_of_le_of_lt (Nat.zero_le _) hj))
theorem g_zald (O : OK p s m args meth c cc own nL ret yn E) {a lab n : Nat} {f : Nat → Int32} {i : Int32} (j : Nat) (hi : i = nI j) (hj : j < n) (hn : n < 2 ^ 31) (ha : h a = some (lab, .inl (aZ E, n, .inl f))) (d : decode cc pc = .ok (.baload, 1))
    (kk : Wg p l e R s m args below meth c E Q (pc + 1) L (.int (f j) :: st) h cells slots) : Wg p l e R s m args below meth c E Q pc L (.int i :: .ref a :: st) h cells slots := by
  subst hi
  intro H locs ls hP hS hl
  have K := kk H locs ls hP hS hl
  obtain ⟨ws, h1, h2, h3⟩ := hP
  rcases HP.case h3 ha with ⟨q0, hq⟩ | ⟨-, hr⟩
  · have hin : vp_in (nI j) n := vp_in_nI hj hn
    refine va_zald O.x O.b O.K h1 q0 2 hq rfl hin d ?_
    rw [nI_clamp (Nat.lt_trans hj hn)]
    exact K
  · exact absurd (gRO_arr hr) (Nat.ne_of_gt (Nat.lt_of_le_of_lt (Nat.zero_le _) hj))
theorem g_bald (O : OK p s m args meth c cc own nL ret yn E) {a lab n : Nat} {f : Nat → Int32} {i : Int32} (j : Nat) (hi : i = nI j) (hj : j < n) (hn : n < 2 ^ 31) (ha : h a = some (lab, .inl (aB E, n, .inl f))) (d : decode cc pc = .ok (.baload, 1))
    (kk : Wg p l e R s m args below meth c E Q (pc + 1) L (.int (f j) :: st) h cells slots) : Wg p l e R s m args below meth c E Q pc L (.int i :: .ref a :: st) h cells slots := by
  subst hi
  intro H locs ls hP hS hl
  have K := kk H locs ls hP hS hl
  obtain ⟨ws, h1, h2, h3⟩ := hP
  rcases HP.case h3 ha with ⟨q0, hq⟩ | ⟨-, hr⟩
  · have hin : vp_in (nI j) n := vp_in_nI hj hn
    refine va_bald O.x O.b O.K h1 q0 3 hq rfl hin d ?_
    rw [nI_clamp (Nat.lt_trans hj hn)]
    exact K
  · exact absurd (gRO_arr hr) (Nat.ne_of_gt (Nat.lt_of_le_of_lt (Nat.zero_le _) hj))
theorem g_aald (O : OK p s m args meth c cc own nL ret yn E) {a lab n : Nat} {f : Nat → Option Nat} {i : Int32} (j : Nat) (hi : i = nI j) (hj : j < n) (hn : n < 2 ^ 31) (ha : h a = some (lab, .inl (aO E, n, .inr (.inr (.inr (.inr f)))))) (d : decode cc pc = .ok (.aaload, 1))
    (kk : Wg p l e R s m args below meth c E Q (pc + 1) L (va_rf (f j) :: st) h cells slots) : Wg p l e R s m args below meth c E Q pc L (.int i :: .ref a :: st) h cells slots := by
  subst hi
  intro H locs ls hP hS hl
  have K := kk H locs ls hP hS hl
  obtain ⟨ws, h1, h2, h3⟩ := hP
  rcases HP.case h3 ha with ⟨q0, hq⟩ | ⟨-, hr⟩
  · have hin : vp_in (nI j) n := vp_in_nI hj hn
    refine va_aldq O.x O.b O.K h1 q0 4 hq rfl hin d ?_
    rw [nI_clamp (Nat.lt_trans hj hn)]
    exact K
  · exact absurd (gRO_arr hr) (Nat.ne_of_gt (Nat.lt_of_le_of_lt (Nat.zero_le _) hj))
theorem g_iast (O : OK p s m args meth c cc own nL ret yn E) {a lab n : Nat} {f : Nat → Int32} {i : Int32} {x : Int32} (j : Nat) (hi : i = nI j) (hj : j < n) (hn : n < 2 ^ 31) (ha : h a = some (lab, .inl (aI E, n, .inl f))) (hm : lab ≠ 0) (d : decode cc pc = .ok (.iastore, 1))
    (kk : Wg p l e R s m args below meth c E Q (pc + 1) L st (hup h a (lab, .inl (aI E, n, .inl (upd f j x)))) cells slots) : Wg p l e R s m args below meth c E Q pc L (.int x :: .int i :: .ref a :: st) h cells slots := by
  subst hi
  intro H locs ls hP hS hl
  obtain ⟨ws, h1, h2, h3⟩ := hP
  obtain ⟨q0, hq⟩ := HP.mut h3 ha hm
  refine va_iast O.x O.b O.K h1 h2 hS q0 0 hq rfl (vp_in_nI hj hn) d (fun H1 locs1 hP1 hD1 hS1 => ?_)
  rw [nI_clamp (Nat.lt_trans hj hn)] at hP1 hD1
  exact kk H1 locs1 ls ⟨_, hP1, hD1, HP.set h2 h3 hq⟩ hS1 hl
theorem g_last (O : OK p s m args meth c cc own nL ret yn E) {a lab n : Nat} {f : Nat → Int64} {i : Int32} {x : Int64} (j : Nat) (hi : i = nI j) (hj : j < n) (hn : n < 2 ^ 31) (ha : h a = some (lab, .inl (aJ E, n, .inr (.inl f)))) (hm : lab ≠ 0) (d : decode cc pc = .ok (.lastore, 1))
    (kk : Wg p l e R s m args below meth c E Q (pc + 1) L st (hup h a (lab, .inl (aJ E, n, .inr (.inl (vp_updL f j x))))) cells slots) : Wg p l e R s m args below meth c E Q pc L (.long x :: .int i :: .ref a :: st) h cells slots := by
  subst hi
  intro H locs ls hP hS hl
  obtain ⟨ws, h1, h2, h3⟩ := hP
  obtain ⟨q0, hq⟩ := HP.mut h3 ha hm
  refine va_last O.x O.b O.K h1 h2 hS q0 1 hq rfl (vp_in_nI hj hn) d (fun H1 locs1 hP1 hD1 hS1 => ?_)
  rw [nI_clamp (Nat.lt_trans hj hn)] at hP1 hD1
  exact kk H1 locs1 ls ⟨_, hP1, hD1, HP.set h2 h3 hq⟩ hS1 hl
theorem g_zast (O : OK p s m args meth c cc own nL ret yn E) {a lab n : Nat} {f : Nat → Int32} {i : Int32} {x : Int32} (j : Nat) (hi : i = nI j) (hj : j < n) (hn : n < 2 ^ 31) (ha : h a = some (lab, .inl (aZ E, n, .inl f))) (hm : lab ≠ 0) (d : decode cc pc = .ok (.bastore, 1))
    (kk : Wg p l e R s m args below meth c E Q (pc + 1) L st (hup h a (lab, .inl (aZ E, n, .inl (upd f j (vp_nar .boolean x))))) cells slots) : Wg p l e R s m args below meth c E Q pc L (.int x :: .int i :: .ref a :: st) h cells slots := by
  subst hi
  intro H locs ls hP hS hl
  obtain ⟨ws, h1, h2, h3⟩ := hP
  obtain ⟨q0, hq⟩ := HP.mut h3 ha hm
  refine va_zast O.x O.b O.K h1 h2 hS q0 2 hq rfl (vp_in_nI hj hn) d (fun H1 locs1 hP1 hD1 hS1 => ?_)
  rw [nI_clamp (Nat.lt_trans hj hn)] at hP1 hD1
  exact kk H1 locs1 ls ⟨_, hP1, hD1, HP.set h2 h3 hq⟩ hS1 hl
theorem g_bast (O : OK p s m args meth c cc own nL ret yn E) {a lab n : Nat} {f : Nat → Int32} {i : Int32} {x : Int32} (j : Nat) (hi : i = nI j) (hj : j < n) (hn : n < 2 ^ 31) (ha : h a = some (lab, .inl (aB E, n, .inl f))) (hm : lab ≠ 0) (d : decode cc pc = .ok (.bastore, 1))
    (kk : Wg p l e R s m args below meth c E Q (pc + 1) L st (hup h a (lab, .inl (aB E, n, .inl (upd f j (vp_nar .byte x))))) cells slots) : Wg p l e R s m args below meth c E Q pc L (.int x :: .int i :: .ref a :: st) h cells slots := by
  subst hi
  intro H locs ls hP hS hl
  obtain ⟨ws, h1, h2, h3⟩ := hP
  obtain ⟨q0, hq⟩ := HP.mut h3 ha hm
  refine va_bast O.x O.b O.K h1 h2 hS q0 3 hq rfl (vp_in_nI hj hn) d (fun H1 locs1 hP1 hD1 hS1 => ?_)
  rw [nI_clamp (Nat.lt_trans hj hn)] at hP1 hD1
  exact kk H1 locs1 ls ⟨_, hP1, hD1, HP.set h2 h3 hq⟩ hS1 hl
/-- the receiver of a call, what is cast -/
theorem HP.recv (O : OK p s m args meth c cc own nL ret yn E) {H : Heap} {locs : List Loc} (hP : HP E h H) (hS : va_S (gA E) s.heap H locs) {a lab ci N : Nat} {fs : List Value} {C : String} {T : u_T} (ha : h a = some (lab, .inr (ci, fs))) (hc : vwCl[ci]? = some (C, T, N)) : ∃ cell : Cell, H[a]? = some cell ∧ cell.vm.isStatics = false ∧ s.vm.findClass C = some cell.cls := by
  obtain ⟨ws, h1, h2, h3⟩ := hP
  rcases HP.case h3 ha with ⟨q0, hq⟩ | ⟨-, hr⟩
  · exact va_recv O.K h1 hc hq
  · obtain ⟨-, -, -, -, hO, -⟩ := O.h
    rcases hr with ⟨rfl, u, w, he⟩ | ⟨rfl, he⟩ | ⟨rfl, he⟩
    · cases he
      cases hc
      obtain ⟨cell, e1, e2, e3, -⟩ := hO.kept hS.2.1
      exact ⟨cell, e1, e2, e3⟩
    · cases he
    · cases he
theorem g_at (O : OK p s m args meth c cc own nL ret yn E) {ci N : Nat} {C : String} {T : u_T} (hc : vwCl[ci]? = some (C, T, N)) : ClassAt s C (E.1.1 ci) := (O.K.1 ci _ hc).2
/-- an object may lie in an Object[] -/
theorem HP.any (O : OK p s m args meth c cc own nL ret yn E) {H : Heap} {locs : List Loc} (hP : HP E h H) (hS : va_S (gA E) s.heap H locs) {a lab ci N : Nat} {fs : List Value} {C : String} {T : u_T} (ha : h a = some (lab, .inr (ci, fs))) (hc : vwCl[ci]? = some (C, T, N)) (q : Cond.castable C "java/lang/Object" ∈ lw_tbl) : va_Any "java/lang/Object" s H a := by
  obtain ⟨cell, e1, e2, e3⟩ := hP.recv O hS ha hc
  obtain ⟨hf, kC, hkC, -⟩ := g_at O hc
  have hcc := Option.some.inj (hf.symm.trans e3)
  exact ⟨cell, e1, e2, ⟨kC, by rw [← hcc]; exact hkC⟩, fun comp hcomp => vb_asgC (O.nw q rfl) comp _ hcomp e3⟩
theorem g_aast (O : OK p s m args meth c cc own nL ret yn E) {a lab n : Nat} {f : Nat → Option Nat} {i : Int32} {v lv ci N : Nat} {fs : List Value} {C : String} {T : u_T} (j : Nat) (hi : i = nI j) (hj : j < n) (hn : n < 2 ^ 31) (ha : h a = some (lab, .inl (aO E, n, .inr (.inr (.inr (.inr f)))))) (hm : lab ≠ 0) (hv : h v = some (lv, .inr (ci, fs))) (hc : vwCl[ci]? = some (C, T, N)) (q : Cond.castable C "java/lang/Object" ∈ lw_tbl) (d : decode cc pc = .ok (.aastore, 1))
    (kk : Wg p l e R s m args below meth c E Q (pc + 1) L st (hup h a (lab, .inl (aO E, n, .inr (.inr (.inr (.inr (va_up f j (some v)))))))) cells slots) : Wg p l e R s m args below meth c E Q pc L (.ref v :: .int i :: .ref a :: st) h cells slots := by
  subst hi
  intro H locs ls hP hS hl
  have hA := hP.any O hS hv hc q
  obtain ⟨ws, h1, h2, h3⟩ := hP
  obtain ⟨q0, hq⟩ := HP.mut h3 ha hm
  refine va_astqM O.x O.b O.K h1 h2 hS q0 4 hq rfl hA (vp_in_nI hj hn) d (fun H1 locs1 hP1 hD1 hS1 => ?_)
  rw [nI_clamp (Nat.lt_trans hj hn)] at hP1 hD1
  exact kk H1 locs1 ls ⟨_, hP1, hD1, HP.set h2 h3 hq⟩ hS1 hl
theorem g_aastN (O : OK p s m args meth c cc own nL ret yn E) {a lab n : Nat} {f : Nat → Option Nat} {i : Int32} (j : Nat) (hi : i = nI j) (hj : j < n) (hn : n < 2 ^ 31) (ha : h a = some (lab, .inl (aO E, n, .inr (.inr (.inr (.inr f)))))) (hm : lab ≠ 0) (d : decode cc pc = .ok (.aastore, 1))
    (kk : Wg p l e R s m args below meth c E Q (pc + 1) L st (hup h a (lab, .inl (aO E, n, .inr (.inr (.inr (.inr (va_up f j none))))))) cells slots) : Wg p l e R s m args below meth c E Q pc L (.null :: .int i :: .ref a :: st) h cells slots := by
  subst hi
  intro H locs ls hP hS hl
  obtain ⟨ws, h1, h2, h3⟩ := hP
  obtain ⟨q0, hq⟩ := HP.mut h3 ha hm
  refine va_astqN O.x O.b O.K h1 h2 hS q0 4 hq rfl (vp_in_nI hj hn) d (fun H1 locs1 hP1 hD1 hS1 => ?_)
  rw [nI_clamp (Nat.lt_trans hj hn)] at hP1 hD1
  exact kk H1 locs1 ls ⟨_, hP1, hD1, HP.set h2 h3 hq⟩ hS1 hl
/-- rows of an array of arrays -/
theorem g_aaldA (O : OK p s m args meth c cc own nL ret yn E) {a lab n : Nat} {cA : ClassId} {ty : FieldType} {f : Nat → Option Nat} {i : Int32} (t0 j : Nat) (ht : (gtys E)[t0]? = some (cA, .array ty)) (hi : i = nI j) (hj : j < n) (hn : n < 2 ^ 31) (ha : h a = some (lab, .inl (cA, n, .inr (.inr (.inr (.inr f)))))) (d : decode cc pc = .ok (.aaload, 1))
    (kk : Wg p l e R s m args below meth c E Q (pc + 1) L (va_rf (f j) :: st) h cells slots) : Wg p l e R s m args below meth c E Q pc L (.int i :: .ref a :: st) h cells slots := by
  subst hi
  intro H locs ls hP hS hl
  have K := kk H locs ls hP hS hl
  obtain ⟨ws, h1, h2, h3⟩ := hP
  rcases HP.case h3 ha with ⟨q0, hq⟩ | ⟨-, hr⟩
  · refine W.aald (v := va_rf (f j)) (ty := .array ty) O.x O.b (h1 q0 _ hq) ((O.K.2 t0 _ ht).1 n (fun j => va_rf (f j))) rfl (fun q => by cases q) (by show ¬ (_ < 0 ∨ (arrV _ _ _).slots.size ≤ _); rw [arrV_size]; exact vp_in_nI hj hn) (by rw [nI_clamp (Nat.lt_trans hj hn)]; show (arrV _ _ _).slots[_]? = _; rw [arrV_read _ _ hj]) rfl rfl d K
  · exact absurd (gRO_arr hr) (Nat.ne_of_gt (Nat.lt_of_le_of_lt (Nat.zero_le _) hj))
/-- newarray -/
theorem g_newa (O : OK p s m args meth c cc own nL ret yn E) {atype : ArrayType} {n : Int32} {mc ms lev : Nat} {cA : ClassId} (lab t0 N : Nat) (a0 : vp_A) (d : decode cc pc = .ok (.newarray atype, 2)) (ht : (gtys E)[t0]? = some (cA, newarray.typeOf atype)) (hcell : vp_cell cA a0 = arrV cA N (fun _ => defaultValue (newarray.typeOf atype))) (hn : n = nI N) (hN : N < 2 ^ 26) (q : Cond.arrayClass (newarray.typeOf atype) ∈ lw_all) (hcells : cells + 1 ≤ mc) (hslots : slots + N ≤ ms)
    (kk : ∀ a : Nat, h a = none → Wg p l e (rmG lev mc ms) s m args below meth c E Q (pc + 2) L (.ref a :: st) (hup h a (lab, .inl (cA, a0))) (cells + 1) (slots + N)) : Wg p l e (rmG lev mc ms) s m args below meth c E Q pc L (.int n :: st) h cells slots := by
  subst hn
  intro H locs ls hP hS hl
  obtain ⟨ws, h1, h2, h3⟩ := hP
  have hN2 : N < 2 ^ 31 := Nat.lt_trans hN (by decide)
  refine va_newaK O.x O.b (O.ts _ q) rfl d rfl (nI_pos hN2) (nI_clamp hN2) ?_ hcells hslots rfl fun H1 cA' e1 z1 o1 hAr hNm => ?_
  · have : componentBytes (newarray.typeOf atype) ≤ 8 := by cases atype <;> decide
    exact Nat.le_trans (Nat.mul_le_mul (Nat.le_of_lt hN) this) (by decide)
  · have hcc : cA' = cA := by
      have h9 := (O.K.2 t0 _ ht).2
      have h10 : s.vm.findClass ("[" ++ (newarray.typeOf atype).toString) = some cA := by cases atype <;> exact h9
      rw [hNm] at h10
      exact Option.some.inj h10
    subst hcc
    have hk : ∀ (k : Nat) (x : Nat × va_E), ws[k]? = some x → H1[x.1]? = H[x.1]? := fun k x hx => o1 x.1 ((h1 k x hx).lt)
    have hA : gA E H.size := Nat.le_trans O.sz hS.1
    have hD1 : va_D (gA E) (ws ++ [(H.size, .inl (cA', a0))]) := h2.push h1 rfl hA
    refine kk H.size (HP.fresh2 O.h hD1 h3).1 H1 locs ls ⟨ws ++ [(H.size, .inl (cA', a0))], (h1.kept hk).app (fun k x hx => ?_), hD1, HP.push h3⟩ ⟨Nat.le_trans hS.1 (by omega), fun x q1 q2 => (o1 x (Nat.lt_of_lt_of_le q1 hS.1)).trans (hS.2.1 x q1 q2), hS.2.2⟩ hl
    have hz : k < 1 := (List.getElem?_eq_some_iff.mp hx).1
    rw [show k = 0 by omega] at hx
    cases hx
    show H1[H.size]? = some (vp_cell _ _)
    rw [hcell]
    exact e1
/-- anewarray of Objects -/
theorem g_anewa (O : OK p s m args meth c cc own nL ret yn E) {n : Int32} {index mc ms lev : Nat} (lab N : Nat) (hn : n = nI N) (hN : N < 2 ^ 26) (q : Cond.classLink own index "java/lang/Object" ∈ lw_all) (d : decode cc pc = .ok (.anewarray index, 3)) (hcells : cells + 1 ≤ mc) (hslots : slots + N ≤ ms)
    (kk : ∀ a : Nat, h a = none → Wg p l e (rmG lev mc ms) s m args below meth c E Q (pc + 3) L (.ref a :: st) (hup h a (lab, .inl (aO E, N, .inr (.inr (.inr (.inr (fun _ => none))))))) (cells + 1) (slots + N)) : Wg p l e (rmG lev mc ms) s m args below meth c E Q pc L (.int n :: st) h cells slots := by
  subst hn
  intro H locs ls hP hS hl
  obtain ⟨ws, h1, h2, h3⟩ := hP
  have hN2 : N < 2 ^ 31 := Nat.lt_trans hN (by decide)
  refine va_newq O.x O.b O.ow (O.ts _ q) O.k.2.2.2.2.1 O.K h1 h2 hS O.fw (nI_pos hN2) (nI_clamp hN2) (Nat.le_trans (Nat.mul_le_mul (Nat.le_of_lt hN) (Nat.le_refl 4)) (by decide)) hcells hslots d (fun a cA' H1 hK1 hP1 hD1 hS1 => ?_)
  have hcc : cA' = aO E := by
    obtain ⟨-, -, -, -, -, h9⟩ := (O.K.2 4 _ rfl).2
    obtain ⟨-, -, -, -, -, h10⟩ := (hK1.2 7 (cA', .object "java/lang/Object") rfl).2
    exact Option.some.inj (h10.symm.trans h9)
  subst hcc
  exact kk a (HP.fresh2 O.h hD1 h3).1 H1 locs ls ⟨_, hP1, hD1, HP.push h3⟩ hS1 hl
/-- checkcast -/
theorem g_cast (O : OK p s m args meth c cc own nL ret yn E) {a lab ci N index : Nat} {fs : List Value} {C nm : String} {T : u_T} (hc : vwCl[ci]? = some (C, T, N)) (ha : h a = some (lab, .inr (ci, fs))) (q : Cond.castable C nm ∈ lw_tbl) (q1 : Cond.classLink own index nm ∈ lw_all) (d : decode cc pc = .ok (.checkcast index, 3))
    (kk : Wg p l e R s m args below meth c E Q (pc + 3) L (.ref a :: st) h cells slots) : Wg p l e R s m args below meth c E Q pc L (.ref a :: st) h cells slots := by
  intro H locs ls hP hS hl
  exact va_castY O.x O.b O.ow (O.ts _ q1) (O.nw q rfl) (hP.recv O hS ha hc) d (kk H locs ls hP hS hl)
theorem g_castS (O : OK p s m args meth c cc own nL ret yn E) {a lab ci N index : Nat} {fs : List Value} {C : String} {T : u_T} (hc : vwCl[ci]? = some (C, T, N)) (ha : h a = some (lab, .inr (ci, fs))) (q1 : Cond.classLink own index C ∈ lw_all) (d : decode cc pc = .ok (.checkcast index, 3))
    (kk : Wg p l e R s m args below meth c E Q (pc + 3) L (.ref a :: st) h cells slots) : Wg p l e R s m args below meth c E Q pc L (.ref a :: st) h cells slots := by
  intro H locs ls hP hS hl
  exact va_castS O.x O.b O.ow (O.ts _ q1) (g_at O hc) (hP.recv O hS ha hc) d (kk H locs ls hP hS hl)
/-- checkcast of an array -/
theorem g_castA (O : OK p s m args meth c cc own nL ret yn E) {a lab index : Nat} {x : vp_A} {cA : ClassId} {nm : String} (hm : lab ≠ 0) (ha : h a = some (lab, .inl (cA, x))) (hnm : s.vm.findClass nm = some cA) (q1 : Cond.classLink own index nm ∈ lw_all) (d : decode cc pc = .ok (.checkcast index, 3))
    (kk : Wg p l e R s m args below meth c E Q (pc + 3) L (.ref a :: st) h cells slots) : Wg p l e R s m args below meth c E Q pc L (.ref a :: st) h cells slots := by
  intro H locs ls hP hS hl
  have K := kk H locs ls hP hS hl
  obtain ⟨ws, h1, h2, h3⟩ := hP
  obtain ⟨q0, hq⟩ := HP.mut h3 ha hm
  exact va_castA O.x O.b O.ow (O.ts _ q1) h1 q0 hq hnm d K
theorem g_nmI (O : OK p s m args meth c cc own nL ret yn E) : s.vm.findClass "[I" = some (aI E) := (O.K.2 0 _ rfl).2
theorem g_nmO (O : OK p s m args meth c cc own nL ret yn E) : s.vm.findClass "[Ljava/lang/Object;" = some (aO E) := va_nmO (O.K.2 4 _ rfl).2 rfl
theorem g_castNull (O : OK p s m args meth c cc own nL ret yn E) {index : Nat} {nm : String} (q1 : Cond.classLink own index nm ∈ lw_all) (d : decode cc pc = .ok (.checkcast index, 3))
    (kk : Wg p l e R s m args below meth c E Q (pc + 3) L (.null :: st) h cells slots) : Wg p l e R s m args below meth c E Q pc L (.null :: st) h cells slots := by
  intro H locs ls hP hS hl
  exact lv_castN O.x O.b d (kk H locs ls hP hS hl)
/-- Object.<init> -/
theorem g_objInit (O : OK p s m args meth c cc own nL ret yn E) {idx a lev mc ms : Nat} (hL : L.length = nL) (q1 : Cond.methodLink own idx objectInit ∈ lw_all) (q2 : Cond.instanceMethod objectInit ∈ lw_all) (q3 : Cond.code objectInit ⟨#[0xb1]⟩ 1 none ∈ lw_all) (d : decode cc pc = .ok (.invokespecial idx, 3)) (hlev : 1 ≤ lev) (hst : (st.map fun v => v.category).sum ≤ 8)
    (kk : Wg p l e (rmG lev mc ms) s m args below meth c E Q (pc + 3) L st h cells slots) : Wg p l e (rmG lev mc ms) s m args below meth c E Q pc L (.ref a :: st) h cells slots := by
  intro H locs ls hP hS hl
  have hlo : 2 * (F0 m pc ls (.ref a :: st)).monitorRoom + (st.map fun v => v.category).sum + 12 ≤ 40 * lev := by
    have h1 : 2 * (F0 m pc ls (.ref a :: st)).monitorRoom + (st.map fun v => v.category).sum ≤ 8 := lv_room hst
    omega
  refine W.objInit O.x O.b O.ow (O.ts _ q1) (O.ts _ q2) (O.ts _ q3) rfl (by rw [O.ml]; exact hl.1.trans hL) rfl d hlev hlo ?_
  exact kk H locs ls hP hS hl
/-- getstatic of constants -/
theorem g_compact (O : OK p s m args meth c cc own nL ret yn E) {index : Nat} (q : Cond.fieldLink own index RJ9 "COMPACT_STRINGS" "Z" ∈ lw_all) (d : decode cc pc = .ok (.getstatic index, 3))
    (kk : Wg p l e R s m args below meth c E Q (pc + 3) L (.int 1 :: st) h cells slots) : Wg p l e R s m args below meth c E Q pc L st h cells slots := by
  intro H locs ls hP hS hl
  exact va_gets O.x O.b O.h.1 hS O.ow (O.ts _ q) (fun x hx => hx) d (kk H locs ls hP hS hl)
theorem g_empty (O : OK p s m args meth c cc own nL ret yn E) {index : Nat} (q : Cond.fieldLink own index RJ4 "DEFAULTCAPACITY_EMPTY_ELEMENTDATA" "[Ljava/lang/Object;" ∈ lw_all) (d : decode cc pc = .ok (.getstatic index, 3))
    (kk : Wg p l e R s m args below meth c E Q (pc + 3) L (.ref (gc E 2) :: st) h cells slots) : Wg p l e R s m args below meth c E Q pc L st h cells slots := by
  intro H locs ls hP hS hl
  exact va_gets O.x O.b O.h.2.1 hS O.ow (O.ts _ q) (fun x hx => hx) d (kk H locs ls hP hS hl)
theorem g_sioobe (O : OK p s m args meth c cc own nL ret yn E) {index : Nat} (q : Cond.fieldLink own index "jdk/internal/util/Preconditions" "SIOOBE_FORMATTER" "Ljava/util/function/BiFunction;" ∈ lw_all) (d : decode cc pc = .ok (.getstatic index, 3))
    (kk : ∀ z : Option Nat, Wg p l e R s m args below meth c E Q (pc + 3) L (va_rf z :: st) h cells slots) : Wg p l e R s m args below meth c E Q pc L st h cells slots := by
  intro H locs ls hP hS hl
  obtain ⟨-, -, -, -, -, -, -, -, -, hZ⟩ := O.h
  rcases hZ with hZ | ⟨t, hZ⟩
  · exact va_gets O.x O.b hZ hS O.ow (O.ts _ q) (fun x hx => hx) d (kk none H locs ls hP hS hl)
  · exact va_gets O.x O.b hZ hS O.ow (O.ts _ q) (fun x hx => hx) d (kk (some t) H locs ls hP hS hl)
end GHEAP
