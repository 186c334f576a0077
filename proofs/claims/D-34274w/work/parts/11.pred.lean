set_option maxRecDepth 100000
/-! frames: which cells stay -/
/-- the cells stay, but those at the addresses l -/
def Ex (l : List Nat) (h h' : HV) : Prop := ∀ (b : Nat) (c : Nat × va_E), h b = some c → b ∉ l → h' b = some c
/-- the cells stay, but those with a label of S -/
def Fr (S : List Nat) (h h' : HV) : Prop := ∀ (b : Nat) (c : Nat × va_E), h b = some c → c.1 ∉ S → h' b = some c
theorem Ex.rf {l : List Nat} {h : HV} : Ex l h h := fun _ _ e _ => e
theorem Fr.rf {S : List Nat} {h : HV} : Fr S h h := fun _ _ e _ => e
theorem Ex.tr {l : List Nat} {h h1 h2 : HV} (a : Ex l h h1) (b : Ex l h1 h2) : Ex l h h2 := fun x c e n => b x c (a x c e n) n
theorem Fr.tr {S : List Nat} {h h1 h2 : HV} (a : Fr S h h1) (b : Fr S h1 h2) : Fr S h h2 := fun x c e n => b x c (a x c e n) n
theorem Ex.mono {l l' : List Nat} {h h1 : HV} (a : Ex l h h1) (s : ∀ x ∈ l, x ∈ l') : Ex l' h h1 := fun x c e n => a x c e (fun z => n (s x z))
theorem Fr.mono {S S' : List Nat} {h h1 : HV} (a : Fr S h h1) (s : ∀ x ∈ S, x ∈ S') : Fr S' h h1 := fun x c e n => a x c e (fun z => n (s c.1 z))
theorem Ex.up {l : List Nat} {h h1 : HV} {a : Nat} {c : Nat × va_E} (e : Ex l h h1) (m : a ∈ l) : Ex l h (hup h1 a c) := fun x d hx n => by
  rw [hup_ne (fun z => n (by rw [z]; exact m))]
  exact e x d hx n
theorem Ex.new {l : List Nat} {h h1 : HV} {a : Nat} {c : Nat × va_E} (e : Ex l h h1) (m : h1 a = none) : Ex l h (hup h1 a c) := fun x d hx n => by
  have h2 := e x d hx n
  rw [hup_ne (fun z => by rw [z, m] at h2; cases h2)]
  exact h2
theorem Fr.up {S : List Nat} {h h1 : HV} {a lab : Nat} {x : va_E} {c : Nat × va_E} (e : Fr S h h1) (ha : h1 a = some (lab, x)) (m : lab ∈ S) : Fr S h (hup h1 a c) := fun y d hy n => by
  have h2 := e y d hy n
  rw [hup_ne (fun z => by rw [z, ha] at h2; cases h2; exact n m)]
  exact h2
theorem Fr.new {S : List Nat} {h h1 : HV} {a : Nat} {c : Nat × va_E} (e : Fr S h h1) (m : h1 a = none) : Fr S h (hup h1 a c) := fun x d hx n => by
  have h2 := e x d hx n
  rw [hup_ne (fun z => by rw [z, m] at h2; cases h2)]
  exact h2
theorem Fr.mul {S : List Nat} {h h1 : HV} {a n lo li : Nat} {eo ei : va_E} (e : Fr S h h1) (m : ∀ b, a ≤ b → h1 b = none) : Fr S h (hmul h1 a n lo li eo ei) := fun x d hx n => by
  have h2 := e x d hx n
  have hlt : x < a := by
    rcases Nat.lt_or_ge x a with z | z
    · exact z
    · rw [m x z] at h2; cases h2
  rw [hmul_ne (Or.inl hlt)]
  exact h2
theorem Ex.fr {l S : List Nat} {h h1 : HV} (e : Ex l h h1) (s : ∀ b ∈ l, ∀ c, h b = some c → c.1 ∈ S) : Fr S h h1 := fun x c hx n => e x c hx (fun z => n (s x z c hx))
/-- two cells of one heap that are not alike are at two places -/
theorem hv_ne {h : HV} {a b : Nat} {c d : Nat × va_E} (ha : h a = some c) (hb : h b = some d) (n : c ≠ d) : a ≠ b := fun z => by
  subst z
  rw [ha] at hb
  exact n (Option.some.inj hb)
theorem hv_neN {h : HV} {a b : Nat} {c : Nat × va_E} (ha : h a = some c) (hb : h b = none) : a ≠ b := fun z => by
  subst z
  rw [ha] at hb
  cases hb
theorem hv_neL {h : HV} {a b l1 l2 : Nat} {x y : va_E} (ha : h a = some (l1, x)) (hb : h b = some (l2, y)) (n : l1 ≠ l2) : a ≠ b := hv_ne ha hb (fun z => n (congrArg Prod.fst z))
theorem lt_ble {a b : Nat} (h : Nat.ble (a + 1) b = true) : a < b := Nat.le_of_ble_eq_true h
theorem nI_b {n : Nat} (h : n ≤ 1000000000) : n < 2 ^ 31 := by omega
/-! what cells hold -/
abbrev cList (mo : Int32) (arr k : Nat) : va_E := .inr (5, [.int mo, .ref arr, .int (nI k)])
abbrev cObjs (E : GE) (n : Nat) (g : Nat → Option Nat) : va_E := .inl (aO E, n, .inr (.inr (.inr (.inr g))))
abbrev cInts (E : GE) (n : Nat) (f : Nat → Int32) : va_E := .inl (aI E, n, .inl f)
abbrev cLongs (E : GE) (n : Nat) (f : Nat → Int64) : va_E := .inl (aJ E, n, .inr (.inl f))
abbrev cBytes (E : GE) (n : Nat) (f : Nat → Int32) : va_E := .inl (aB E, n, .inl f)
/-- the constants' cells -/
def GC (E : GE) (h : HV) : Prop := (∃ u v : Value, h (gc E 0) = some (0, .inr (15, [.ref (gc E 1), .int 0, u, v]))) ∧ h (gc E 1) = some (0, cBytes E 0 (fun _ => 0)) ∧ h (gc E 2) = some (0, cObjs E 0 (fun _ => none))
theorem GC.fr {E : GE} {h h' : HV} {S : List Nat} (f : Fr S h h') (h0 : 0 ∉ S) (hA : GC E h) : GC E h' := by
  obtain ⟨⟨u, v, h1⟩, h2, h3⟩ := hA
  exact ⟨⟨u, v, f _ _ h1 h0⟩, f _ _ h2 h0, f _ _ h3 h0⟩
/-- an ArrayList with the elements l, room for cap -/
def AL (E : GE) (h : HV) (lab a cap : Nat) (l : List Nat) : Prop :=
  ∃ (mo : Int32) (arr la : Nat) (g : Nat → Option Nat), h a = some (lab, cList mo arr l.length) ∧ h arr = some (la, cObjs E cap g) ∧ ((la = lab ∧ 0 < cap) ∨ (la = 0 ∧ cap = 0 ∧ arr = gc E 2)) ∧ l.length ≤ cap ∧ cap ≤ 100000 ∧ ∀ (j : Nat) (y : Nat), l[j]? = some y → g j = some y
/-- how much an ArrayList grows -/
def ncap (n : Nat) : Nat := if n = 0 then 10 else n + (if 1 < n / 2 then n / 2 else 1)
theorem AL.fr {E : GE} {h h' : HV} {lab a cap : Nat} {l S : List Nat} (f : Fr S h h') (hn : lab ∉ S) (h0 : 0 ∉ S) (hA : AL E h lab a cap l) : AL E h' lab a cap l := by
  obtain ⟨mo, arr, la, g, h1, h2, h3, h4⟩ := hA
  refine ⟨mo, arr, la, g, f _ _ h1 hn, f _ _ h2 ?_, h3, h4⟩
  rcases h3 with ⟨rfl, -⟩ | ⟨rfl, -⟩
  · exact hn
  · exact h0
theorem AL.len {E : GE} {h : HV} {lab a cap : Nat} {l : List Nat} (hA : AL E h lab a cap l) : l.length ≤ cap ∧ cap ≤ 100000 := by
  obtain ⟨mo, arr, la, g, h1, h2, h3, h4, h5, h6⟩ := hA
  exact ⟨h4, h5⟩
/-- an iterator over an ArrayList, behind i elements -/
def IT (E : GE) (h : HV) (lab a cap : Nat) (l : List Nat) (lit it i : Nat) : Prop :=
  ∃ (mo lr : Int32) (arr la : Nat) (g : Nat → Option Nat), h it = some (lit, .inr (6, [.int (nI i), .int lr, .int mo, .ref a])) ∧ h a = some (lab, cList mo arr l.length) ∧ h arr = some (la, cObjs E cap g) ∧ ((la = lab ∧ 0 < cap) ∨ (la = 0 ∧ cap = 0 ∧ arr = gc E 2)) ∧ l.length ≤ cap ∧ cap ≤ 100000 ∧ i ≤ l.length ∧ ∀ (j : Nat) (y : Nat), l[j]? = some y → g j = some y
theorem IT.fr {E : GE} {h h' : HV} {lab a cap lit it i : Nat} {l S : List Nat} (f : Fr S h h') (hn : lab ∉ S) (h0 : 0 ∉ S) (hn2 : lit ∉ S) (hA : IT E h lab a cap l lit it i) : IT E h' lab a cap l lit it i := by
  obtain ⟨mo, lr, arr, la, g, hi, h1, h2, h3, h4⟩ := hA
  refine ⟨mo, lr, arr, la, g, f _ _ hi hn2, f _ _ h1 hn, f _ _ h2 ?_, h3, h4⟩
  rcases h3 with ⟨rfl, -⟩ | ⟨rfl, -⟩
  · exact hn
  · exact h0
/-- the cells by another name -/
theorem Wg.H {p : Program} {l : Launch} {e : Env} {R : Room} {s : State} {m : MethodId} {args : Array Value} {below : List Frame} {meth : Method} {c : Code} {E : GE} {Q : State → Prop} {pc : Nat} {L : List (Option Value)} {st : List Value} {h : HV} {cells slots : Nat} (h' : HV) (hh : h = h')
    (kk : Wg p l e R s m args below meth c E Q pc L st h' cells slots) : Wg p l e R s m args below meth c E Q pc L st h cells slots := by subst hh; exact kk
theorem Wg.S {p : Program} {l : Launch} {e : Env} {R : Room} {s : State} {m : MethodId} {args : Array Value} {below : List Frame} {meth : Method} {c : Code} {E : GE} {Q : State → Prop} {pc : Nat} {L : List (Option Value)} {st : List Value} {h : HV} {cells slots : Nat} (st' : List Value) (hh : st = st')
    (kk : Wg p l e R s m args below meth c E Q pc L st' h cells slots) : Wg p l e R s m args below meth c E Q pc L st h cells slots := by subst hh; exact kk
