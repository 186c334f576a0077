set_option maxRecDepth 100000
/-! Trellis: what a sentence weighs -/
theorem MX.new {E : GE} {h : HV} {lab a n : Nat} : MX E (hmul h a n lab lab (cRows (aII E) n (fun j => if j < n then some (a + 1 + j) else none)) (.inl (aI E, 5, .inl (fun _ => 0)))) lab a n 5 (fun _ _ => 0) := by
  refine ⟨_, hmul_o, fun i hi => ⟨a + 1 + i, fun _ => 0, if_pos hi, hmul_i hi, fun j hj => nI_0.symm⟩, fun i j r hi hj e1 e2 => ?_⟩
  rw [if_pos hi] at e1
  rw [if_pos hj] at e2
  have := Option.some.inj (e1.trans e2.symm)
  omega
/-- a function of two numbers changed at one place -/
def fu2 (f : Nat → Nat → Nat) (i j v : Nat) : Nat → Nat → Nat := fun x y => if x = i ∧ y = j then v else f x y
theorem MX.set {E : GE} {h : HV} {ls a n k i j v r : Nat} {f : Nat → Nat → Nat} {row : Nat → Int32} {g : Nat → Option Nat} (hk : n = n) (m1 : h a = some (ls, cRows (aII E) n g)) (m2 : ∀ i, i < n → ∃ r row, g i = some r ∧ h r = some (ls, cInts E k row) ∧ ∀ j, j < k → row j = nI (f i j)) (m3 : ∀ i j r, i < n → j < n → g i = some r → g j = some r → i = j) (hi : i < n) (hr : g i = some r) (hrow : h r = some (ls, cInts E k row)) (hq : ∀ j, j < k → row j = nI (f i j)) (hne : a ≠ r) : MX E (hup h r (ls, cInts E k (upd row j (nI v)))) ls a n k (fu2 f i j v) := by
  refine ⟨g, (hup_ne hne).trans m1, fun x hx => ?_, m3⟩
  by_cases hxi : x = i
  · subst hxi
    refine ⟨r, _, hr, hup_self, fun y hy => ?_⟩
    unfold upd fu2
    by_cases hyj : y = j
    · rw [if_pos hyj, if_pos ⟨rfl, hyj⟩]
    · rw [if_neg hyj, if_neg (fun z => hyj z.2)]
      exact hq y hy
  · obtain ⟨r2, row2, q1, q2, q3⟩ := m2 x hx
    have hne2 : r2 ≠ r := fun z => hxi (m3 x i r hx hi (z ▸ q1) hr)
    refine ⟨r2, row2, q1, (hup_ne hne2).trans q2, fun y hy => ?_⟩
    unfold fu2
    rw [if_neg (fun z => hxi z.1)]
    exact q3 y hy
/-- what questions read of a Trellistag: counts of words, of endings, steps, firsts, the sentence, its locks -/
def TQ (E : GE) (h : HV) (T : Nat) (cw ce : List Nat → Nat → Nat) (st : Nat → Nat → Nat) (fi : Nat → Nat) (ws : List (List Nat)) (lk : Nat → Option Nat) : Prop :=
  ∃ (aw ae ast afi ase alo cap : Nat) (x4 x5 x8 : Value) (li : List Nat) (row : Nat → Int32), h T = some (1, .inr (0, [.ref aw, .ref ae, .ref ast, .ref afi, x4, x5, .ref ase, .ref alo, x8])) ∧ CO E h 1 2 aw 3 4 cw ∧ CO E h 2 5 ae 6 7 ce ∧ MX E h 8 ast 5 5 st ∧ VX E h 9 afi 5 fi ∧
    AL E h 12 ase cap li ∧ li.length = ws.length ∧ (∀ (i : Nat) (w : List Nat), ws[i]? = some w → ∃ b, li[i]? = some b ∧ Str E h b w ∧ w.length ≤ 7) ∧ h alo = some (13, cInts E 5 row) ∧ (∀ j, j < ws.length → row j = nOf (lk j)) ∧ ws.length ≤ 5 ∧ (∀ j k, lk j = some k → k < 5) ∧
    (∀ w, tot (cw w) 5 ≤ 1000000) ∧ (∀ w, tot (ce w) 5 ≤ 1000000) ∧ (∀ i j, st i j ≤ 1000000) ∧ (∀ j, fi j ≤ 1000000)
theorem TQ.fr {E : GE} {h h' : HV} {T : Nat} {cw ce : List Nat → Nat → Nat} {st : Nat → Nat → Nat} {fi : Nat → Nat} {ws : List (List Nat)} {lk : Nat → Option Nat} {S : List Nat} (F : Fr S h h') (hs : ∀ x ∈ S, 20 ≤ x) (q : TQ E h T cw ce st fi ws lk) : TQ E h' T cw ce st fi ws lk := by
  have n : ∀ k, k < 20 → k ∉ S := fun k hk z => by have := hs k z; omega
  obtain ⟨aw, ae, ast, afi, ase, alo, cap, x4, x5, x8, li, row, q1, q2, q3, q4, q5, q6, q7, q8, q9, q10⟩ := q
  exact ⟨aw, ae, ast, afi, ase, alo, cap, x4, x5, x8, li, row, F _ _ q1 (n 1 (by decide)), q2.fr F (n 0 (by decide)) (n 2 (by decide)) (n 3 (by decide)) (n 4 (by decide)), q3.fr F (n 0 (by decide)) (n 5 (by decide)) (n 6 (by decide)) (n 7 (by decide)), q4.fr F (n 8 (by decide)), q5.fr F (n 9 (by decide)), q6.fr F (n 12 (by decide)) (n 0 (by decide)), q7, fun i w e => (by obtain ⟨b, e1, e2, e3⟩ := q8 i w e; exact ⟨b, e1, e2.fr F (n 0 (by decide)), e3⟩), F _ _ q9 (n 13 (by decide)), q10⟩
/-- what a word of the sentence weighs with a tag, as it is locked -/
def wtOf (cw ce : List Nat → Nat → Nat) (ws : List (List Nat)) (lk : Nat → Option Nat) (i j : Nat) : Nat := if lk i = none ∨ lk i = some j then wOf cw ce (ws.getD i []) j else 0
/-- a Trellis: its words' weights wt, its steps' weights sp -/
def TR (E : GE) (h : HV) (r T n : Nat) (wt sp : Nat → Nat → Nat) : Prop := ∃ aW aS : Nat, h r = some (20, .inr (10, [.int (nI n), .ref aW, .ref aS, .ref T])) ∧ MX E h 21 aW n 5 wt ∧ MX E h 22 aS 5 5 sp
theorem TR.fr {E : GE} {h h' : HV} {r T n : Nat} {wt sp : Nat → Nat → Nat} {S : List Nat} (F : Fr S h h') (h1 : 20 ∉ S) (h2 : 21 ∉ S) (h3 : 22 ∉ S) (R : TR E h r T n wt sp) : TR E h' r T n wt sp := by
  obtain ⟨aW, aS, r1, r2, r3⟩ := R
  exact ⟨aW, aS, F _ _ r1 h1, r2.fr F h2, r3.fr F h3⟩
theorem nOf_eq {o : Option Nat} {k : Nat} (ho : ∀ j, o = some j → j < 5) (hk : k < 5) : nOf o = nI k ↔ o = some k := by
  cases o with
  | none => exact ⟨fun z => absurd z.symm (nI_ne_neg (by omega)), fun z => nomatch z⟩
  | some j => exact ⟨fun z => by rw [(nI_eq (by have := ho j rfl; omega) (by omega)).mp z], fun z => by cases z; rfl⟩
theorem nOf_none {o : Option Nat} (ho : ∀ j, o = some j → j < 5) : nOf o = -1 ↔ o = none := by
  cases o with
  | none => exact ⟨fun _ => rfl, fun _ => rfl⟩
  | some j => exact ⟨fun z => absurd z (nI_ne_neg (by have := ho j rfl; omega)), fun z => nomatch z⟩
