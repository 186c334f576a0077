set_option maxRecDepth 100000
/-! System.arraycopy, arrays of arrays, getClass -/
section GCOPY
variable {p : Program} {l : Launch} {e : Env} {s : State} {m : MethodId} {args : Array Value} {below : List Frame} {meth : Method} {c : Code} {cc : ByteArray} {own : String} {nL : Nat} {ret : Option FieldType} {yn : String} {E : GE} {Q : State → Prop} {pc : Nat} {L : List (Option Value)} {st : List Value} {h : HV} {cells slots : Nat}
/-- an object that may lie in an Object[] -/
def gAny (h : HV) (a : Nat) : Prop := ∃ (lab ci N : Nat) (fs : List Value) (C : String) (T : u_T), h a = some (lab, .inr (ci, fs)) ∧ vwCl[ci]? = some (C, T, N) ∧ Cond.castable C "java/lang/Object" ∈ lw_tbl
theorem gAny.kept {h h' : HV} {a : Nat} (g : gAny h a) (hk : ∀ c, h a = some c → h' a = some c) : gAny h' a := by
  obtain ⟨lab, ci, N, fs, C, T, h1, h2⟩ := g
  exact ⟨lab, ci, N, fs, C, T, hk _ h1, h2⟩
theorem g_room5 {st : List Value} (hst : (st.map fun v => v.category).sum ≤ 8) {lev : Nat} (hlev : 1 ≤ lev) : (st.map fun v => v.category).sum + (nativeFrameWords "java/lang/System" "arraycopy" 5 + 11) ≤ 40 * lev := by
  have h1 : nativeFrameWords "java/lang/System" "arraycopy" 5 ≤ 20 := by decide
  omega
theorem g_acopyO (O : OK p s m args meth c cc own nL ret yn E) {index lev mc ms a0 a1 l0 l1 n0 n1 : Nat} {f g : Nat → Option Nat} (sp dp n : Nat) {vs vd vn : Int32} (hvs : vs = nI sp) (hvd : vd = nI dp) (hvn : vn = nI n) (h0 : h a0 = some (l0, .inl (aO E, n0, .inr (.inr (.inr (.inr f)))))) (hl0 : l0 ≠ 0) (h1 : h a1 = some (l1, .inl (aO E, n1, .inr (.inr (.inr (.inr g)))))) (hl1 : l1 ≠ 0) (hs : sp + n ≤ n0) (hd : dp + n ≤ n1) (hb0 : n0 < 2 ^ 31) (hb1 : n1 < 2 ^ 31) (hel : ∀ i, i < n → ∀ y, f (sp + i) = some y → gAny h y) (q : Cond.methodLink own index arraycopyName ∈ lw_all) (hL : L.length = nL) (hlev : 1 ≤ lev) (hst : (st.map fun v => v.category).sum ≤ 8) (d : decode cc pc = .ok (.invokestatic index, 3))
    (kk : Wg p l e (rmG lev mc ms) s m args below meth c E Q (pc + 3) L st (hup h a1 (l1, .inl (aO E, n1, .inr (.inr (.inr (.inr (va_cpy f g sp dp n))))))) cells slots) : Wg p l e (rmG lev mc ms) s m args below meth c E Q pc L (.int vn :: .int vd :: .ref a1 :: .int vs :: .ref a0 :: st) h cells slots := by
  subst hvs; subst hvd; subst hvn
  intro H locs ls hP hS hl
  have hE : ∀ i, i < n → ∀ y, f (sp + i) = some y → va_Any "java/lang/Object" s H y := fun i hi y hy => by
    obtain ⟨lab, ci, N, fs, C, T, e1, e2, e3⟩ := hel i hi y hy
    exact hP.any O hS e1 e2 e3
  obtain ⟨ws, p1, p2, p3⟩ := hP
  obtain ⟨q0, hq0⟩ := HP.mut p3 h0 hl0
  obtain ⟨q1, hq1⟩ := HP.mut p3 h1 hl1
  have b1 : sp < 2 ^ 31 := by omega
  have b2 : dp < 2 ^ 31 := by omega
  have b3 : n < 2 ^ 31 := by omega
  refine va_copyM O.x O.b (by rw [O.ml, ← hL]; exact hl.1.symm) O.ow (O.ts _ q) (O.ts _ q253) (O.ts _ q252) (O.ts _ q59) O.K p1 p2 hS q0 q1 4 4 hq0 hq1 rfl rfl (nI_pos b1) (nI_pos b2) (nI_pos b3) (by rw [nI_clamp b1, nI_clamp b3]; exact hs) (by rw [nI_clamp b2, nI_clamp b3]; exact hd) (by rw [nI_clamp b1, nI_clamp b3]; exact hE) hlev (g_room5 hst hlev) d (fun H1 locs1 hP1 hD1 hS1 => ?_)
  rw [nI_clamp b1, nI_clamp b2, nI_clamp b3] at hP1 hD1
  exact kk H1 locs1 ls ⟨_, hP1, hD1, HP.set p2 p3 hq1⟩ hS1 hl
theorem g_acopyI (O : OK p s m args meth c cc own nL ret yn E) {index lev mc ms a0 a1 l0 l1 n0 n1 : Nat} {f g : Nat → Int32} (sp dp n : Nat) {vs vd vn : Int32} (hvs : vs = nI sp) (hvd : vd = nI dp) (hvn : vn = nI n) (h0 : h a0 = some (l0, .inl (aI E, n0, .inl f))) (hl0 : l0 ≠ 0) (h1 : h a1 = some (l1, .inl (aI E, n1, .inl g))) (hl1 : l1 ≠ 0) (hs : sp + n ≤ n0) (hd : dp + n ≤ n1) (hb0 : n0 < 2 ^ 31) (hb1 : n1 < 2 ^ 31) (q : Cond.methodLink own index arraycopyName ∈ lw_all) (hL : L.length = nL) (hlev : 1 ≤ lev) (hst : (st.map fun v => v.category).sum ≤ 8) (d : decode cc pc = .ok (.invokestatic index, 3))
    (kk : Wg p l e (rmG lev mc ms) s m args below meth c E Q (pc + 3) L st (hup h a1 (l1, .inl (aI E, n1, .inl (va_cpy f g sp dp n)))) cells slots) : Wg p l e (rmG lev mc ms) s m args below meth c E Q pc L (.int vn :: .int vd :: .ref a1 :: .int vs :: .ref a0 :: st) h cells slots := by
  subst hvs; subst hvd; subst hvn
  intro H locs ls hP hS hl
  obtain ⟨ws, p1, p2, p3⟩ := hP
  obtain ⟨q0, hq0⟩ := HP.mut p3 h0 hl0
  obtain ⟨q1, hq1⟩ := HP.mut p3 h1 hl1
  have b1 : sp < 2 ^ 31 := by omega
  have b2 : dp < 2 ^ 31 := by omega
  have b3 : n < 2 ^ 31 := by omega
  refine va_copyi O.x O.b (by rw [O.ml, ← hL]; exact hl.1.symm) O.ow (O.ts _ q) (O.ts _ q253) (O.ts _ q252) (O.ts _ q59) O.K p1 p2 hS q0 q1 0 0 hq0 hq1 rfl rfl rfl (nI_pos b1) (nI_pos b2) (nI_pos b3) (by rw [nI_clamp b1, nI_clamp b3]; exact hs) (by rw [nI_clamp b2, nI_clamp b3]; exact hd) (fun i hi => rfl) hlev (g_room5 hst hlev) d (fun H1 locs1 hP1 hD1 hS1 => ?_)
  rw [nI_clamp b1, nI_clamp b2, nI_clamp b3] at hP1 hD1
  exact kk H1 locs1 ls ⟨_, hP1, hD1, HP.set p2 p3 hq1⟩ hS1 hl
/-- bytes; the source may be a constant -/
theorem g_acopyB (O : OK p s m args meth c cc own nL ret yn E) {index lev mc ms a0 a1 l0 l1 n0 n1 : Nat} {f g : Nat → Int32} (sp dp n : Nat) {vs vd vn : Int32} (hvs : vs = nI sp) (hvd : vd = nI dp) (hvn : vn = nI n) (h0 : h a0 = some (l0, .inl (aB E, n0, .inl f))) (h1 : h a1 = some (l1, .inl (aB E, n1, .inl g))) (hl1 : l1 ≠ 0) (hs : sp + n ≤ n0) (hd : dp + n ≤ n1) (hb0 : n0 < 2 ^ 31) (hb1 : n1 < 2 ^ 31) (hfit : ∀ i, i < n → fits .byte (.int (f (sp + i))) = true) (q : Cond.methodLink own index arraycopyName ∈ lw_all) (hL : L.length = nL) (hlev : 1 ≤ lev) (hst : (st.map fun v => v.category).sum ≤ 8) (d : decode cc pc = .ok (.invokestatic index, 3))
    (kk : Wg p l e (rmG lev mc ms) s m args below meth c E Q (pc + 3) L st (hup h a1 (l1, .inl (aB E, n1, .inl (va_cpy f g sp dp n)))) cells slots) : Wg p l e (rmG lev mc ms) s m args below meth c E Q pc L (.int vn :: .int vd :: .ref a1 :: .int vs :: .ref a0 :: st) h cells slots := by
  subst hvs; subst hvd; subst hvn
  intro H locs ls hP hS hl
  obtain ⟨ws, p1, p2, p3⟩ := hP
  obtain ⟨q1, hq1⟩ := HP.mut p3 h1 hl1
  have b1 : sp < 2 ^ 31 := by omega
  have b2 : dp < 2 ^ 31 := by omega
  have b3 : n < 2 ^ 31 := by omega
  rcases HP.case p3 h0 with ⟨q0, hq0⟩ | ⟨-, hr⟩
  · refine va_copyi O.x O.b (by rw [O.ml, ← hL]; exact hl.1.symm) O.ow (O.ts _ q) (O.ts _ q253) (O.ts _ q252) (O.ts _ q59) O.K p1 p2 hS q0 q1 3 3 hq0 hq1 rfl rfl rfl (nI_pos b1) (nI_pos b2) (nI_pos b3) (by rw [nI_clamp b1, nI_clamp b3]; exact hs) (by rw [nI_clamp b2, nI_clamp b3]; exact hd) (by rw [nI_clamp b1, nI_clamp b3]; exact hfit) hlev (g_room5 hst hlev) d (fun H1 locs1 hP1 hD1 hS1 => ?_)
    rw [nI_clamp b1, nI_clamp b2, nI_clamp b3] at hP1 hD1
    exact kk H1 locs1 ls ⟨_, hP1, hD1, HP.set p2 p3 hq1⟩ hS1 hl
  · have hn0 : n0 = 0 := gRO_arr hr
    subst hn0
    have hn : n = 0 := by omega
    have hsp : sp = 0 := by omega
    subst hn; subst hsp
    obtain ⟨-, -, -, -, -, -, -, hT1, -, -⟩ := O.h
    rcases hr with ⟨-, u, w, he⟩ | ⟨ha, he⟩ | ⟨-, he⟩
    · cases he
    · subst ha
      refine vk_copyt O.x O.b (by rw [O.ml, ← hL]; exact hl.1.symm) O.ow (O.ts _ q) (O.ts _ q253) (O.ts _ q252) (O.ts _ q59) O.K p1 p2 hS (f := fun _ => 0) hT1 q1 3 hq1 rfl (nI_pos b1) (nI_pos b2) (nI_pos b3) (by rw [nI_clamp b1]; exact Nat.le_refl 0) (by rw [nI_clamp b2, nI_clamp b3]; exact hd) (fun i hi => absurd hi (by rw [nI_clamp b3]; exact Nat.not_lt_zero _)) hlev (g_room5 hst hlev) d (fun H1 locs1 hP1 hD1 hS1 => ?_)
      rw [nI_clamp b1, nI_clamp b2] at hP1 hD1
      have ec : va_cpy (fun _ => (0 : Int32)) g 0 dp 0 = va_cpy f g 0 dp 0 := by
        funext k
        have hk : ¬ (dp ≤ k ∧ k < dp + 0) := by omega
        simp only [va_cpy, if_neg hk]
      rw [ec] at hP1 hD1
      exact kk H1 locs1 ls ⟨_, hP1, hD1, HP.set p2 p3 hq1⟩ hS1 hl
    · have := congrArg (fun q => q.2.2) (Sum.inl.inj he)
      cases this
/-- getClass of an Object[], and the Class constant -/
theorem g_getC (O : OK p s m args meth c cc own nL ret yn E) {index lev mc ms a lab n : Nat} {f : Nat → Option Nat} (ha : h a = some (lab, .inl (aO E, n, .inr (.inr (.inr (.inr f)))))) (hm : lab ≠ 0) (q : Cond.methodLink own index ⟨"java/lang/Object", "getClass", "()Ljava/lang/Class;"⟩ ∈ lw_all) (hL : L.length = nL) (hlev : 1 ≤ lev) (hst : (st.map fun v => v.category).sum ≤ 8) (d : decode cc pc = .ok (.invokevirtual index, 3))
    (kk : Wg p l e (rmG lev mc ms) s m args below meth c E Q (pc + 3) L (.ref (gc E 3) :: st) h cells slots) : Wg p l e (rmG lev mc ms) s m args below meth c E Q pc L (.ref a :: st) h cells slots := by
  intro H locs ls hP hS hl
  have K := kk H locs ls hP hS hl
  obtain ⟨ws, p1, p2, p3⟩ := hP
  obtain ⟨q0, hq0⟩ := HP.mut p3 ha hm
  refine va_getC O.x O.b (by rw [O.ml, ← hL]; exact hl.1.symm) O.ow (O.ts _ q) (O.spec q1809 rfl) (C := "[Ljava/lang/Object;") (O.ts _ q1808) (O.ts _ q765) (O.ts _ q789) O.k.2.2.2.1 ⟨_, p1 q0 _ hq0, rfl, g_nmO O⟩ hlev (show _ + 14 ≤ 40 * lev by omega) d K
theorem g_ldcM {R : Room} (O : OK p s m args meth c cc own nL ret yn E) {index : Nat} (d : decode cc pc = .ok (.ldc index, 2)) (q : Cond.classLink own index "[Ljava/lang/Object;" ∈ lw_all)
    (kk : Wg p l e R s m args below meth c E Q (pc + 2) L (.ref (gc E 3) :: st) h cells slots) : Wg p l e R s m args below meth c E Q pc L st h cells slots := by
  intro H locs ls hP hS hl
  exact va_ldcM O.x O.b O.ow (O.ts _ q) O.k.2.2.2.1 d (kk H locs ls hP hS hl)
/-- the cells with n + 1 new arrays: an array of n arrays, of k places each -/
def hmul (h : HV) (a n lo li : Nat) (eo ei : va_E) : HV := fun x => if x = a then some (lo, eo) else if a < x ∧ x ≤ a + n then some (li, ei) else h x
theorem hmul_o {h : HV} {a n lo li : Nat} {eo ei : va_E} : hmul h a n lo li eo ei a = some (lo, eo) := if_pos rfl
theorem hmul_i {h : HV} {a n lo li j : Nat} {eo ei : va_E} (hj : j < n) : hmul h a n lo li eo ei (a + 1 + j) = some (li, ei) := by
  unfold hmul
  rw [if_neg (by omega), if_pos (by omega)]
theorem hmul_ne {h : HV} {a n lo li b : Nat} {eo ei : va_E} (hb : b < a ∨ a + n < b) : hmul h a n lo li eo ei b = h b := by
  unfold hmul
  rw [if_neg (by omega), if_neg (by omega)]
theorem outerC_arrV (c N h0 : Nat) : ∀ i, i ≤ N → Jvm.Free.Multi.outerC c N h0 i = arrV c N (fun j => va_rf (if j < i then some (h0 + 1 + j) else none)) := by
  intro i
  induction i with
  | zero =>
    intro _
    show ({ cls := c, slots := Array.replicate N .null, vm := .none } : Cell) = _
    rw [arrV_new]
    congr 1
  | succ i ih =>
    intro hi
    show (Jvm.Free.Multi.outerC c N h0 i).setSlot i (.ref (h0 + 1 + i)) = _
    rw [ih (by omega), arrV_store]
    congr 1
    funext j
    simp only [updV]
    by_cases h1 : j = i
    · subst h1
      rw [if_pos rfl, if_pos (by omega)]
      rfl
    · rw [if_neg h1]
      by_cases h2 : j < i
      · rw [if_pos h2, if_pos (by omega)]
      · rw [if_neg h2, if_neg (by omega)]
set_option maxHeartbeats 4000000 in
theorem g_multi (O : OK p s m args meth c cc own nL ret yn E) {index lev mc ms : Nat} {ty : FieldType} {cO cI : ClassId} {vn vk : Int32} (lo li tO tI n k : Nat) (x : (Nat → Int32) ⊕ (Nat → Int64) ⊕ (Nat → UInt32) ⊕ (Nat → UInt64) ⊕ (Nat → Option Nat)) (hvn : vn = nI n) (hvk : vk = nI k) (hO : (gtys E)[tO]? = some (cO, .array ty)) (hI : (gtys E)[tI]? = some (cI, ty)) (hcell : vp_cell cI (k, x) = arrV cI k (fun _ => defaultValue ty)) (hob : s.vm.findClass ("[" ++ (FieldType.array ty).toString) = some cO) (hib : s.vm.findClass (FieldType.array ty).toString = some cI) (hn : n < 1000) (hk : k < 1000) (hbt : componentBytes ty ≤ 8) (hdf : fits ty (defaultValue ty) = true) (hdd : (defaultValue ty).isDefault = true) (q : Cond.classLink own index ("[" ++ (FieldType.array ty).toString) ∈ lw_all) (qa : Cond.arrayClass ty ∈ lw_all) (hov : (Cond.arrayOver (.array ty)).before args s = true) (d : decode cc pc = .ok (.multianewarray index 2, 4)) (hcells : cells + (1 + n) ≤ mc) (hslots : slots + (n + n * k) ≤ ms)
    (kk : ∀ a : Nat, (∀ b, a ≤ b → h b = none) → Wg p l e (rmG lev mc ms) s m args below meth c E Q (pc + 4) L (.ref a :: st) (hmul h a n lo li (.inl (cO, n, .inr (.inr (.inr (.inr (fun j => if j < n then some (a + 1 + j) else none)))))) (.inl (cI, k, x))) (cells + 1 + n) (slots + n + n * k)) : Wg p l e (rmG lev mc ms) s m args below meth c E Q pc L (.int vk :: .int vn :: st) h cells slots := by
  subst hvn; subst hvk
  intro H locs ls hP hS hl T hT X
  have bn : n < 2 ^ 31 := by omega
  have bk : k < 2 ^ 31 := by omega
  obtain ⟨ws, p1, p2, p3⟩ := hP
  obtain ⟨vm₁, cA, comp, hW, hfA, hfC, hO2, hI2, X1, step⟩ := X.multianewarray2F O.x O.ow (O.ts _ q) hov (O.ts _ qa) (g := F0 m pc ls (.int (nI k) :: .int (nI n) :: st)) rfl (by rw [O.b]; exact d) rfl (nI_pos bn) (nI_pos bk) (by rw [nI_clamp bn]; omega) (by rw [nI_clamp bk]; exact Nat.le_trans (Nat.mul_le_mul (Nat.le_of_lt hk) hbt) (by decide)) (by rw [nI_clamp bk]; omega) hdf hdd (by rw [nI_clamp bn]; exact hcells) (by rw [nI_clamp bn, nI_clamp bk]; exact hslots)
  rw [nI_clamp bn, nI_clamp bk] at X1 step
  have eA : cA = cO := Option.some.inj (hfA.symm.trans hob)
  have eC : comp = cI := Option.some.inj (hfC.symm.trans hib)
  subst eA; subst eC
  have hh : (T.setVm vm₁).heap = H := hT
  obtain ⟨f1, f2, -, -⟩ := Jvm.Free.Multi.fill_facts (T.setVm vm₁) cA comp n k (defaultValue ty) n
  have f3 := Jvm.Free.Multi.fill_inner (T.setVm vm₁) cA comp n k (defaultValue ty) n
  have f4 : ∀ b : Nat, b < H.size → (Jvm.Free.Multi.fill (T.setVm vm₁) cA comp n k (defaultValue ty) n).heap[b]? = H[b]? := fun b hb => by
    rw [Jvm.Free.Multi.fill_old (T.setVm vm₁) cA comp n k (defaultValue ty) (by rw [hh]; exact hb), hh]
  rw [hh] at f1 f2
  rw [hT] at step
  generalize hH1 : Jvm.Free.Multi.fill (T.setVm vm₁) cA comp n k (defaultValue ty) n = T1 at f1 f2 f3 f4 X1 step
  have f3' : ∀ j, j < n → T1.heap[H.size + 1 + j]? = some (Jvm.Free.Multi.innerC comp k (defaultValue ty)) := fun j hj => by
    have := f3 j hj
    rw [hh] at this
    exact this
  have hz : gB E ≤ H.size := Nat.le_trans O.sz hS.1
  have fresh : ∀ b, H.size ≤ b → h b = none := fun b hb => HP.fresh O.h hz p1 p3 hb
  have hS1 : va_S (gA E) s.heap T1.heap locs := ⟨by rw [f1]; exact Nat.le_trans hS.1 (by omega), fun b g1 g2 => (f4 b (Nat.lt_of_lt_of_le g1 hS.1)).trans (hS.2.1 b g1 g2), hS.2.2⟩
  let eo : va_E := .inl (cA, n, .inr (.inr (.inr (.inr (fun j => if j < n then some (H.size + 1 + j) else none)))))
  let ei : va_E := .inl (comp, k, x)
  have hP1 : HP E (hmul h H.size n lo li eo ei) T1.heap := by
    refine ⟨ws ++ ([(H.size, eo)] ++ (List.range n).map (fun j => (H.size + 1 + j, ei))), ?_, ?_, ?_⟩
    · refine va_P.app (p1.kept fun i y hy => f4 _ ((p1 i y hy).lt)) (va_P.app ?_ ?_)
      · intro i y hy
        have hz : i < 1 := (List.getElem?_eq_some_iff.mp hy).1
        rw [show i = 0 by omega] at hy
        cases hy
        show T1.heap[H.size]? = some (vp_cell cA _)
        rw [f2, outerC_arrV cA n H.size n (Nat.le_refl n)]
        rfl
      · intro i y hy
        rw [List.getElem?_map] at hy
        cases hj : (List.range n)[i]? with
        | none => rw [hj] at hy; cases hy
        | some j =>
          rw [hj] at hy
          cases hy
          have hjn : j < n := List.mem_range.mp (List.mem_of_getElem? hj)
          show T1.heap[H.size + 1 + j]? = some (vp_cell comp (k, x))
          rw [f3' j hjn, hcell, ← arrV_new]
          rfl
    · refine va_D.app p2 ?_ ?_
      · refine va_D.app ⟨fun i j y z hi hj _ => ?_, fun i y hi => ?_⟩ ⟨fun i j y z hi hj e => ?_, fun i y hi => ?_⟩ ?_
        · have a1 : i < 1 := (List.getElem?_eq_some_iff.mp hi).1
          have a2 : j < 1 := (List.getElem?_eq_some_iff.mp hj).1
          omega
        · have a1 : i < 1 := (List.getElem?_eq_some_iff.mp hi).1
          rw [show i = 0 by omega] at hi
          cases hi
          exact hz
        · rw [List.getElem?_map] at hi hj
          have a1 : i < n := by
            rcases Nat.lt_or_ge i n with z | z
            · exact z
            · rw [List.getElem?_eq_none (by simpa using z)] at hi; cases hi
          have a2 : j < n := by
            rcases Nat.lt_or_ge j n with z | z
            · exact z
            · rw [List.getElem?_eq_none (by simpa using z)] at hj; cases hj
          rw [List.getElem?_range a1] at hi
          rw [List.getElem?_range a2] at hj
          cases hi
          cases hj
          simp only at e
          omega
        · rw [List.getElem?_map] at hi
          have a1 : i < n := by
            rcases Nat.lt_or_ge i n with z | z
            · exact z
            · rw [List.getElem?_eq_none (by simpa using z)] at hi; cases hi
          rw [List.getElem?_range a1] at hi
          cases hi
          show gB E ≤ H.size + 1 + i
          omega
        · intro i j y z hi hj e
          have a1 : i < 1 := (List.getElem?_eq_some_iff.mp hi).1
          rw [show i = 0 by omega] at hi
          cases hi
          obtain ⟨j', -, rfl⟩ := List.mem_map.mp (List.mem_of_getElem? hj)
          simp only at e
          omega
      · intro i j y z hi hj e
        have h1 := (p1 i y hi).lt
        rcases List.mem_append.mp (List.mem_of_getElem? hj) with hm | hm
        · simp only [List.mem_singleton] at hm
          subst hm
          simp only at e
          omega
        · obtain ⟨j', -, rfl⟩ := List.mem_map.mp hm
          simp only at e
          omega
    · intro b cell hb
      by_cases e1 : b = H.size
      · subst e1
        rw [hmul_o] at hb
        cases hb
        exact Or.inl (List.mem_append_right _ (List.mem_append_left _ List.mem_cons_self))
      · by_cases e2 : H.size < b ∧ b ≤ H.size + n
        · obtain ⟨j, rfl⟩ : ∃ j, b = H.size + 1 + j := ⟨b - (H.size + 1), by omega⟩
          rw [hmul_i (by omega)] at hb
          cases hb
          exact Or.inl (List.mem_append_right _ (List.mem_append_right _ (List.mem_map.mpr ⟨j, List.mem_range.mpr (by omega), rfl⟩)))
        · rw [hmul_ne (by omega)] at hb
          rcases p3 b cell hb with hm | hr
          · exact Or.inl (List.mem_append_left _ hm)
          · exact Or.inr hr
  obtain ⟨t, a1, b1⟩ := kk H.size fresh T1.heap locs ls hP1 hS1 hl T1 rfl X1
  exact ⟨t, step t a1, b1⟩
end GCOPY
