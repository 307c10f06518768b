/-! what a step does to the component's state (none: it's refused), and its row -/
def vI : Value → Option Int32
  | .int i => some i
  | _ => none
def vJ : Value → Option Int64
  | .long i => some i
  | _ => none
def vRf : Value → Option (Option Nat)
  | .null => some none
  | .ref a => some (some a)
  | _ => none
theorem vI_eq {v : Value} {i : Int32} (h : vI v = some i) : v = .int i := by cases v <;> simp_all [vI]
theorem vJ_eq {v : Value} {i : Int64} (h : vJ v = some i) : v = .long i := by cases v <;> simp_all [vJ]
theorem vRf_eq {v : Value} {r : Option Nat} (h : vRf v = some r) : v = va_rf r := by
  cases v <;> simp only [vRf, Option.some.injEq, reduceCtorEq] at h
  · subst h; rfl
  · subst h; rfl
theorem rf_some {r : Option Nat} {a : Nat} (h : r = some a) : va_rf r = .ref a := by rw [h]; rfl
theorem rf_none {r : Option Nat} (h : r = none) : va_rf r = .null := by rw [h]; rfl
theorem rf_cat (r : Option Nat) : (va_rf r).category = 1 := by cases r <;> rfl
def xlk (σ : xS) (a : Nat) : Option xE := match xD σ a with
  | some z => some z
  | none => xC σ a
/-- the field of the cell a, by the place that it has in a's class -/
def xg (σ : xS) (cs : List (Nat × Nat)) (a : Nat) : Option Value := (xlk σ a).bind fun z => match z with
  | .inl _ => none
  | .inr q => (cs.find? (fun x => x.1 == q.1)).bind fun x => q.2[x.2]?
def xgI (σ : xS) (cs : List (Nat × Nat)) (a : Nat) : Option Int32 := (xg σ cs a).bind vI
def xgJ (σ : xS) (cs : List (Nat × Nat)) (a : Nat) : Option Int64 := (xg σ cs a).bind vJ
def xgR (σ : xS) (cs : List (Nat × Nat)) (a : Nat) : Option (Option Nat) := (xg σ cs a).bind vRf
def xp (σ : xS) (cs : List (Nat × Nat)) (a : Nat) (v : Value) : Option xS := (xD σ a).bind fun z => match z with
  | .inl _ => none
  | .inr q => (cs.find? (fun x => x.1 == q.1)).bind fun x => if x.2 < q.2.length then some (xuD σ a (.inr (q.1, q.2.set x.2 v))) else none
def xpZ (σ : xS) (cs : List (Nat × Nat)) (a : Nat) (v : Int32) : Option xS := if v = 0 ∨ v = 1 then xp σ cs a (.int v) else none
def xpI (σ : xS) (k : Nat) (v : Int32) : Option xS := some (xuI σ k v)
def xpN (σ : xS) (j : Fin 3) (k : Nat) (v : Int32) : Option xS := some (xuN σ j k v)
def xpT (σ : xS) (r : Option Nat) : Option xS := some (xuT σ r)
def xnr (t : Nat) (v : Int32) : Int32 := if t = 2 then v.toInt8.toInt32 else if t = 3 then v.toInt16.toInt32 else if t = 5 then v &&& 1 else v
def xin (q : Int32) (n : Nat) : Bool := decide (¬ (q < 0 ∨ n ≤ q.toNatClampNeg))
theorem xin_p {q : Int32} {n : Nat} (h : xin q n = true) : ¬ (q < 0 ∨ n ≤ q.toNatClampNeg) := of_decide_eq_true h
/-- static arrays -/
def xla (t : Nat) (σ : xS) (i : Nat) (q : Int32) : Option Int32 := if xak i = t ∧ xin q (xal i) = true then some (xA σ i q.toNatClampNeg) else none
def xsa (t : Nat) (σ : xS) (i : Nat) (q v : Int32) : Option xS := if xak i = t ∧ xin q (xal i) = true then some (xuA σ i q.toNatClampNeg (xnr t v)) else none
def xlr (σ : xS) (i : Nat) (q : Int32) : Option (Option Nat) := if 6 ≤ xak i ∧ xin q (xal i) = true then some (xRA σ i q.toNatClampNeg) else none
/-- which classes a reference array takes -/
def xtk (t ci : Nat) : Bool := (t == 6 && (ci == 4 || ci == 5 || ci == 6 || ci == 7 || ci == 8 || ci == 9)) || (t == 7 && ci == 2) || (t == 8 && ci == 13) || (t == 10 && ci == 3) || (t == 11 && ci == 19) || (t == 12 && ci == 20) || (t == 13 && (ci == 26 || ci == 27 || ci == 28)) || (t == 14 && ci == 31)
def xoc (σ : xS) (t : Nat) (r : Option Nat) : Bool := match r with
  | none => true
  | some a => match xlk σ a with
    | some (.inr q) => xtk t q.1
    | _ => false
def xsr (σ : xS) (i : Nat) (q : Int32) (r : Option Nat) : Option xS := if 6 ≤ xak i ∧ xin q (xal i) = true ∧ xoc σ (xak i) r = true then some (xuR σ i q.toNatClampNeg r) else none
/-- dynamic arrays -/
def xdl (t : Nat) (σ : xS) (a : Nat) (q : Int32) : Option Int32 := (xlk σ a).bind fun z => match z with
  | .inl (t', n, .inl f) => if t' = t ∧ xin q n = true then some (f q.toNatClampNeg) else none
  | _ => none
def xdlJ (σ : xS) (a : Nat) (q : Int32) : Option Int64 := (xlk σ a).bind fun z => match z with
  | .inl (t', n, .inr (.inl f)) => if t' = 4 ∧ xin q n = true then some (f q.toNatClampNeg) else none
  | _ => none
def xdlR (σ : xS) (a : Nat) (q : Int32) : Option (Option Nat) := (xlk σ a).bind fun z => match z with
  | .inl (t', n, .inr (.inr (.inr (.inr f)))) => if 6 ≤ t' ∧ t' < 16 ∧ xin q n = true then some (f q.toNatClampNeg) else none
  | _ => none
def xds (t : Nat) (σ : xS) (a : Nat) (q v : Int32) : Option xS := (xD σ a).bind fun z => match z with
  | .inl (t', n, .inl f) => if t' = t ∧ xin q n = true then some (xuD σ a (.inl (t, n, .inl (upd f q.toNatClampNeg (xnr t v))))) else none
  | _ => none
def xdsJ (σ : xS) (a : Nat) (q : Int32) (v : Int64) : Option xS := (xD σ a).bind fun z => match z with
  | .inl (t', n, .inr (.inl f)) => if t' = 4 ∧ xin q n = true then some (xuD σ a (.inl (4, n, .inr (.inl (vp_updL f q.toNatClampNeg v))))) else none
  | _ => none
def xdsR (σ : xS) (a : Nat) (q : Int32) (r : Option Nat) : Option xS := (xD σ a).bind fun z => match z with
  | .inl (t', n, .inr (.inr (.inr (.inr f)))) => if 6 ≤ t' ∧ t' < 16 ∧ xin q n = true ∧ xoc σ t' r = true then some (xuD σ a (.inl (t', n, .inr (.inr (.inr (.inr (va_up f q.toNatClampNeg r))))))) else none
  | _ => none
def xle (σ : xS) (a : Nat) : Option Int32 := (xlk σ a).bind fun z => match z with
  | .inl (t, n, _) => if t < 16 then some (Int32.ofNat n) else none
  | _ => none
/-- worlds: what is looked up is held; what a write leaves -/
theorem xW.lk {E : xG} {σ : xS} {a : Nat} {z : xE} (h : xlk σ a = some z) (hz : xreg z) : xW E σ a (xto E z) := by
  unfold xlk at h
  cases hd : xD σ a with
  | some y =>
    rw [hd] at h
    obtain rfl := Option.some.inj h
    exact Or.inr (Or.inr (Or.inr (Or.inl ⟨_, hd, hz, rfl⟩)))
  | none =>
    rw [hd] at h
    exact Or.inr (Or.inr (Or.inr (Or.inr ⟨_, h, hz, rfl⟩)))
theorem xlk_D {σ : xS} {a : Nat} {z : xE} (h : xD σ a = some z) : xlk σ a = some z := by unfold xlk; rw [h]
theorem xD_u (σ : xS) (a : Nat) (z : xE) (b : Nat) : xD (xuD σ a z) b = if b = a then some z else xD σ b := rfl
theorem xN_u (σ : xS) (j : Fin 3) (k : Nat) (v : Int32) (a : Fin 3) (q : Nat) : xN (xuN σ j k v) a q = if a = j ∧ q = k then v else xN σ a q := rfl
theorem xB.dyn {E : xG} {σ : xS} {a : Nat} {z y : xE} (hB : xB E σ) (h : xD σ a = some z) : xB E (xuD σ a y) := by
  obtain ⟨h1, h2, h3, h4, h5, h6⟩ := hB
  refine ⟨fun b w hb => ?_, h2, h3, h4, fun b w hb => ?_, h6⟩
  · by_cases e : b = a
    · subst e; exact h1 _ _ h
    · exact h1 b w (by rwa [xD_u, if_neg e] at hb)
  · by_cases e : b = a
    · subst e; exact h5 _ _ h
    · exact h5 b w (by rwa [xD_u, if_neg e] at hb)
theorem xW.dyn {E : xG} {σ : xS} {a : Nat} {z y : xE} (hB : xB E σ) (h : xD σ a = some z) {b : Nat} {f : va_E} (hb : xW E (xuD σ a y) b f) : (b = a ∧ f = xto E y) ∨ (b ≠ a ∧ xW E σ b f) := by
  have hst := (hB.1 _ _ h).2
  rcases hb with ⟨h1, h2⟩ | ⟨j, h1, h2⟩ | ⟨i, h0, h1, h2⟩ | ⟨w, h1, h2, h3⟩ | ⟨w, h1, h2, h3⟩
  · exact Or.inr ⟨fun q => hst (Or.inl (q.symm.trans h1)), Or.inl ⟨h1, h2⟩⟩
  · exact Or.inr ⟨fun q => hst (Or.inr (Or.inl ⟨j, q.symm.trans h1⟩)), Or.inr (Or.inl ⟨j, h1, h2⟩)⟩
  · exact Or.inr ⟨fun q => hst (Or.inr (Or.inr ⟨i, h0, q.symm.trans h1⟩)), Or.inr (Or.inr (Or.inl ⟨i, h0, h1, h2⟩))⟩
  · by_cases e : b = a
    · subst e
      have : w = y := by rw [xD_u, if_pos rfl] at h1; exact (Option.some.inj h1).symm
      subst this
      exact Or.inl ⟨rfl, h3⟩
    · exact Or.inr ⟨e, Or.inr (Or.inr (Or.inr (Or.inl ⟨w, by rwa [xD_u, if_neg e] at h1, h2, h3⟩)))⟩
  · have h4 := hB.2.1 _ _ h1
    have h5 := (hB.1 _ _ h).1.1
    exact Or.inr ⟨by omega, Or.inr (Or.inr (Or.inr (Or.inr ⟨w, h1, h2, h3⟩)))⟩
theorem xW.obj {E : xG} {σ : xS} {k : Nat} {v : Int32} (hE : xOK E) (hB : xB E σ) (hk : xF0 E (xuI σ k v) = (xF0 E σ).set k (.int v)) {b : Nat} {f : va_E} (hb : xW E (xuI σ k v) b f) : (b = xo E ∧ f = .inr (0, (xF0 E σ).set k (.int v))) ∨ (b ≠ xo E ∧ xW E σ b f) := by
  rcases hb with ⟨h1, h2⟩ | ⟨j, h1, h2⟩ | ⟨i, h0, h1, h2⟩ | ⟨w, h1, h2, h3⟩ | ⟨w, h1, h2, h3⟩
  · exact Or.inl ⟨h1, by rw [h2, hk]⟩
  · exact Or.inr ⟨h1 ▸ hE.1 j, Or.inr (Or.inl ⟨j, h1, h2⟩)⟩
  · exact Or.inr ⟨h1 ▸ hE.2.1 i h0, Or.inr (Or.inr (Or.inl ⟨i, h0, h1, h2⟩))⟩
  · exact Or.inr ⟨fun q => (hB.1 _ _ h1).2 (Or.inl q), Or.inr (Or.inr (Or.inr (Or.inl ⟨w, h1, h2, h3⟩)))⟩
  · have h4 := hB.2.1 _ _ h1
    have h5 := (hE.2.2.2.2.2 (xo E) (Or.inl rfl)).1
    exact Or.inr ⟨by omega, Or.inr (Or.inr (Or.inr (Or.inr ⟨w, h1, h2, h3⟩)))⟩
theorem xW.twg {E : xG} {σ : xS} {v : Option Nat} (hE : xOK E) (hB : xB E σ) {b : Nat} {f : va_E} (hb : xW E (xuT σ v) b f) : (b = xo E ∧ f = .inr (0, (xF0 E σ).set 28 (va_rf v))) ∨ (b ≠ xo E ∧ xW E σ b f) := by
  rcases hb with ⟨h1, h2⟩ | ⟨j, h1, h2⟩ | ⟨i, h0, h1, h2⟩ | ⟨w, h1, h2, h3⟩ | ⟨w, h1, h2, h3⟩
  · exact Or.inl ⟨h1, by rw [h2]; rfl⟩
  · exact Or.inr ⟨h1 ▸ hE.1 j, Or.inr (Or.inl ⟨j, h1, h2⟩)⟩
  · exact Or.inr ⟨h1 ▸ hE.2.1 i h0, Or.inr (Or.inr (Or.inl ⟨i, h0, h1, h2⟩))⟩
  · exact Or.inr ⟨fun q => (hB.1 _ _ h1).2 (Or.inl q), Or.inr (Or.inr (Or.inr (Or.inl ⟨w, h1, h2, h3⟩)))⟩
  · have h4 := hB.2.1 _ _ h1
    have h5 := (hE.2.2.2.2.2 (xo E) (Or.inl rfl)).1
    exact Or.inr ⟨by omega, Or.inr (Or.inr (Or.inr (Or.inr ⟨w, h1, h2, h3⟩)))⟩
theorem xW.net {E : xG} {σ : xS} {j : Fin 3} {k : Nat} {v : Int32} (hE : xOK E) (hB : xB E σ) (hk : k = 2 ∨ k = 3) {b : Nat} {f : va_E} (hb : xW E (xuN σ j k v) b f) : (b = xnt E j ∧ f = .inr (1, (xF1 E σ j).set k (.int v))) ∨ (b ≠ xnt E j ∧ xW E σ b f) := by
  rcases hb with ⟨h1, h2⟩ | ⟨i, h1, h2⟩ | ⟨i, h0, h1, h2⟩ | ⟨w, h1, h2, h3⟩ | ⟨w, h1, h2, h3⟩
  · exact Or.inr ⟨fun q => hE.1 j (q.symm.trans h1), Or.inl ⟨h1, h2⟩⟩
  · by_cases e : i = j
    · subst e
      refine Or.inl ⟨h1, ?_⟩
      rw [h2]
      rcases hk with rfl | rfl <;> simp [xF1, xN_u]
    · refine Or.inr ⟨fun q => e (hE.2.2.2.1 i j (h1.symm.trans q)), Or.inr (Or.inl ⟨i, h1, ?_⟩)⟩
      rw [h2]
      simp [xF1, xN_u, e]
  · exact Or.inr ⟨h1 ▸ hE.2.2.1 i j h0, Or.inr (Or.inr (Or.inl ⟨i, h0, h1, h2⟩))⟩
  · exact Or.inr ⟨fun q => (hB.1 _ _ h1).2 (Or.inr (Or.inl ⟨j, q⟩)), Or.inr (Or.inr (Or.inr (Or.inl ⟨w, h1, h2, h3⟩)))⟩
  · have h4 := hB.2.1 _ _ h1
    have h5 := (hE.2.2.2.2.2 (xnt E j) (Or.inr (Or.inl ⟨j, rfl⟩))).1
    exact Or.inr ⟨by omega, Or.inr (Or.inr (Or.inr (Or.inr ⟨w, h1, h2, h3⟩)))⟩
theorem xW.sar {E : xG} {σ σ' : xS} {i : Nat} (hE : xOK E) (hB : xB E σ) (hi : i < 16) (h0 : xF0 E σ' = xF0 E σ) (h1 : ∀ j, xF1 E σ' j = xF1 E σ j) (h2 : ∀ q, q ≠ i → xct σ' q = xct σ q) (h3 : xD σ' = xD σ) (h4 : xC σ' = xC σ) {b : Nat} {f : va_E} (hb : xW E σ' b f) : (b = xar E i ∧ f = .inl (xtc E (xak i), xct σ' i)) ∨ (b ≠ xar E i ∧ xW E σ b f) := by
  rcases hb with ⟨g1, g2⟩ | ⟨j, g1, g2⟩ | ⟨q, g0, g1, g2⟩ | ⟨w, g1, g2, g3⟩ | ⟨w, g1, g2, g3⟩
  · exact Or.inr ⟨fun z => hE.2.1 i hi (z.symm.trans g1), Or.inl ⟨g1, by rw [g2, h0]⟩⟩
  · exact Or.inr ⟨fun z => hE.2.2.1 i j hi (z.symm.trans g1), Or.inr (Or.inl ⟨j, g1, by rw [g2, h1]⟩)⟩
  · by_cases e : q = i
    · subst e
      exact Or.inl ⟨g1, g2⟩
    · exact Or.inr ⟨fun z => e (hE.2.2.2.2.1 q i g0 hi (g1.symm.trans z)), Or.inr (Or.inr (Or.inl ⟨q, g0, g1, by rw [g2, h2 q e]⟩))⟩
  · rw [h3] at g1
    exact Or.inr ⟨fun q => (hB.1 _ _ g1).2 (Or.inr (Or.inr ⟨i, hi, q⟩)), Or.inr (Or.inr (Or.inr (Or.inl ⟨w, g1, g2, g3⟩)))⟩
  · rw [h4] at g1
    have h4 := hB.2.1 _ _ g1
    have h5 := (hE.2.2.2.2.2 (xar E i) (Or.inr (Or.inr ⟨i, hi, rfl⟩))).1
    exact Or.inr ⟨by omega, Or.inr (Or.inr (Or.inr (Or.inr ⟨w, g1, g2, g3⟩)))⟩
theorem xak_lt {i : Nat} (h : xak i ≠ 0) : i < 16 := by
  unfold xak at h
  split at h <;> first | omega | exact absurd rfl h
theorem wLk.lt {own : String} {idx ci k : Nat} (h : wLk own idx ci k) : ci < 64 := by
  obtain ⟨_, _, _, _, h1, -⟩ := h
  have h2 : ci < xcl.length := (List.getElem?_eq_some_iff.mp h1).1
  have h3 : xcl.length = 32 := rfl
  omega
theorem wLkN.lt {own : String} {idx ci k : Nat} (h : wLkN own idx ci k) : ci < 64 := by
  obtain ⟨_, _, _, _, h1, -⟩ := h
  have h2 : ci < xcl.length := (List.getElem?_eq_some_iff.mp h1).1
  have h3 : xcl.length = 32 := rfl
  omega
theorem xg_some {σ : xS} {cs : List (Nat × Nat)} {a : Nat} {v : Value} (h : xg σ cs a = some v) : ∃ ci k fs, xlk σ a = some (.inr (ci, fs)) ∧ (ci, k) ∈ cs ∧ fs[k]? = some v := by
  unfold xg at h
  refine k_bind h (fun z h1 h => ?_)
  cases z with
  | inl q => cases h
  | inr q =>
    refine k_bind h (fun x h2 h => ?_)
    have h3 := List.find?_some h2
    have h4 : x.1 = q.1 := by simpa using h3
    exact ⟨q.1, x.2, q.2, h1, by rw [← h4]; exact List.mem_of_find?_eq_some h2, h⟩
theorem xp_some {σ σ' : xS} {cs : List (Nat × Nat)} {a : Nat} {v : Value} (h : xp σ cs a v = some σ') : ∃ ci k fs, xD σ a = some (.inr (ci, fs)) ∧ (ci, k) ∈ cs ∧ k < fs.length ∧ σ' = xuD σ a (.inr (ci, fs.set k v)) := by
  unfold xp at h
  refine k_bind h (fun z h1 h => ?_)
  cases z with
  | inl q => cases h
  | inr q =>
    refine k_bind h (fun x h2 h => ?_)
    have h3 := List.find?_some h2
    have h4 : x.1 = q.1 := by simpa using h3
    split at h
    · next hl => exact ⟨q.1, x.2, q.2, h1, by rw [← h4]; exact List.mem_of_find?_eq_some h2, hl, (Option.some.inj h).symm⟩
    · cases h
section XROWS
variable {p : Program} {l : Launch} {e : Env} {R : Room} {s : State} {m : MethodId} {args : Array Value} {below : List Frame} {meth : Method} {c : Code} {H : Heap} {locs : List Loc} {cells slots : Nat} {Q : State → Prop}
variable {cc : ByteArray} {pc nL : Nat} {ls : Array Slot} {rest : List Value} {rt : Option FieldType} {own : String} {E : xG} {σ σ' : xS} {a idx k : Nat} {cs : List (Nat × Nat)} {H0 : Heap}
theorem x_start {F L : Nat} {y : MethodName} {cy : ByteArray} {av : List Value} {rv : Option Value} (hc : plainName y.cls = true) (hn : (lg_sl av).length ≤ nL)
    (kk : ∀ (p : Program) (e : Env) (s : State) (m : MethodId) (args : Array Value) (below : List Frame) (meth : Method) (c : Code), xSt E y.cls p m c cy nL s args meth rt → (meth.name = y.name) → xR E σ s.heap → va_S (xAA E) s.heap s.heap [] → ∀ ls, lv_has ls nL (lv_args 0 av) → W p l e (xRm F L (xnx σ' - xnx σ) (xns σ' - xns σ)) s m args below meth c s.heap [] 0 0 (MQ below (xQ E rv σ') args s (xnx σ' - xnx σ) (xns σ' - xns σ) (xAA E)) (F0 m 0 ls [])) : xMet l y cy nL rt F L E av σ rv σ' := by
  refine Met.ofW (cc := cy) (maxL := nL) (ret := rt) hc rfl ?_
  intro p e s m args below meth c s₁ B hml hv
  obtain ⟨rfl, hR, hK⟩ := hv
  have hts := atoms_spec (ws := ws_ y cy nL rt) B.pre
  have hts : ∀ w ∈ lw_all, w.before _ s = true := fun w h => hts w (List.mem_cons_of_mem _ h)
  have hl := lv_entry av (n := nL) hn
  rw [lg_entry_eq]
  exact kk p e s m _ below meth c ⟨⟨⟨B.exec, B.bytes, hml, findClass_of_methodNamed B.named, hts⟩, B.returns, B.notSynchronized⟩, hK⟩ (name_of_methodNamed B.named B.method).1 hR va_S.rf _ hl
/-- the object's fields -/
theorem x_oget {v : Value} (S : xSt E own p m c cc nL s args meth rt) (hR : xR E σ H) (hL : wLk own idx 0 k) (hv : (xF0 E σ)[k]? = some v) (hdg : decode cc pc = .ok (.getfield idx, 3))
    (kk : W p l e R s m args below meth c H locs cells slots Q (F0 m (pc + 3) ls (v :: rest))) : W p l e R s m args below meth c H locs cells slots Q (F0 m pc ls (.ref (xo E) :: rest)) :=
  w_get S.1.1 S.2.1 hR.1 (Or.inl ⟨rfl, rfl⟩) hL hv hdg kk
theorem x_nget {j : Fin 3} {v : Value} (S : xSt E own p m c cc nL s args meth rt) (hR : xR E σ H) (hL : wLk own idx 1 k) (hv : (xF1 E σ j)[k]? = some v) (hdg : decode cc pc = .ok (.getfield idx, 3))
    (kk : W p l e R s m args below meth c H locs cells slots Q (F0 m (pc + 3) ls (v :: rest))) : W p l e R s m args below meth c H locs cells slots Q (F0 m pc ls (.ref (xnt E j) :: rest)) :=
  w_get S.1.1 S.2.1 hR.1 (Or.inr (Or.inl ⟨j, rfl, rfl⟩)) hL hv hdg kk
theorem x_ngetN {j : Fin 3} {v : Value} (S : xSt E own p m c cc nL s args meth rt) (hR : xR E σ H) (hL : wLkN own idx 1 k) (hv : (xF1 E σ j)[k]? = some v) (hdg : decode cc pc = .ok (.getfield idx, 3))
    (kk : W p l e R s m args below meth c H locs cells slots Q (F0 m (pc + 3) ls (v :: rest))) : W p l e R s m args below meth c H locs cells slots Q (F0 m pc ls (.ref (xnt E j) :: rest)) :=
  w_getN S.1.1 S.2.2.1 S.2.1 hR.1 (Or.inr (Or.inl ⟨j, rfl, rfl⟩)) hL hv hdg kk
theorem x_oput {x : Int32} {ty : FieldType} (S : xSt E own p m c cc nL s args meth rt) (hR : xR E σ H) (hS0 : va_S (xAA E) H0 H locs) (h : xpI σ k x = some σ') (hk : xF0 E (xuI σ k x) = (xF0 E σ).set k (.int x)) (hL : wLk own idx 0 k) (hT : wPt 0 k ty false own) (hn : narrow ty (.int x) = .int x) (hfit : fits ty (.int x) = true) (hl : k < 32) (hdg : decode cc pc = .ok (.putfield idx, 3))
    (kk : ∀ (H1 : Heap) (locs1 : List Loc), xR E σ' H1 → va_S (xAA E) H0 H1 locs1 → W p l e R s m args below meth c H1 locs1 cells slots Q (F0 m (pc + 3) ls rest)) : W p l e R s m args below meth c H locs cells slots Q (F0 m pc ls (.int x :: .ref (xo E) :: rest)) := by
  obtain rfl := Option.some.inj h
  exact w_put S.1.1 S.2.1 hR.1 hS0 (Or.inl ⟨rfl, rfl⟩) hL hT hn hfit hl (S.2.2.2.2.2.2.2.2 _ (Or.inl rfl)) (fun b f hb => xW.obj S.2.2.2 hR.2.1 hk hb) hdg (fun H1 locs1 z h1 h2 => kk H1 locs1 ⟨h1, hR.2.1, z.trans hR.2.2⟩ h2)
theorem xB.twg {E : xG} {σ : xS} {v : Option Nat} (hB : xB E σ) : xB E (xuT σ v) := by
  obtain ⟨h1, h2, h3, h4, h5, h6, h7, h8⟩ := hB
  refine ⟨h1, h2, h3, h4, h5, fun j => ?_, h7, h8⟩
  show (if 2 + j.val = 0 then v else xT σ (2 + j.val)) = _
  rw [if_neg (by omega)]
  exact h6 j
theorem x_tput {r : Option Nat} {ty : FieldType} (S : xSt E own p m c cc nL s args meth rt) (hR : xR E σ H) (hS0 : va_S (xAA E) H0 H locs) (h : xpT σ r = some σ') (hL : wLk own idx 0 28) (hT : wPt 0 28 (.array ty) false own) (hdg : decode cc pc = .ok (.putfield idx, 3))
    (kk : ∀ (H1 : Heap) (locs1 : List Loc), xR E σ' H1 → va_S (xAA E) H0 H1 locs1 → W p l e R s m args below meth c H1 locs1 cells slots Q (F0 m (pc + 3) ls rest)) : W p l e R s m args below meth c H locs cells slots Q (F0 m pc ls (va_rf r :: .ref (xo E) :: rest)) := by
  obtain rfl := Option.some.inj h
  exact w_put S.1.1 S.2.1 hR.1 hS0 (Or.inl ⟨rfl, rfl⟩) hL hT (by cases r <;> rfl) (by cases r <;> rfl) (show 28 < 32 by decide) (S.2.2.2.2.2.2.2.2 _ (Or.inl rfl)) (fun b f hb => xW.twg S.2.2.2 hR.2.1 hb) hdg (fun H1 locs1 z h1 h2 => kk H1 locs1 ⟨h1, hR.2.1.twg, z.trans hR.2.2⟩ h2)
theorem x_nput {j : Fin 3} {x : Int32} (S : xSt E own p m c cc nL s args meth rt) (hR : xR E σ H) (hS0 : va_S (xAA E) H0 H locs) (h : xpN σ j k x = some σ') (hk : k = 2 ∨ k = 3) (hL : wLk own idx 1 k) (hT : wPt 1 k .int false own) (hdg : decode cc pc = .ok (.putfield idx, 3))
    (kk : ∀ (H1 : Heap) (locs1 : List Loc), xR E σ' H1 → va_S (xAA E) H0 H1 locs1 → W p l e R s m args below meth c H1 locs1 cells slots Q (F0 m (pc + 3) ls rest)) : W p l e R s m args below meth c H locs cells slots Q (F0 m pc ls (.int x :: .ref (xnt E j) :: rest)) := by
  obtain rfl := Option.some.inj h
  exact w_put S.1.1 S.2.1 hR.1 hS0 (Or.inr (Or.inl ⟨j, rfl, rfl⟩)) hL hT rfl rfl (by rcases hk with rfl | rfl <;> exact Nat.le_of_ble_eq_true rfl) (S.2.2.2.2.2.2.2.2 _ (Or.inr (Or.inl ⟨j, rfl⟩))) (fun b f hb => xW.net S.2.2.2 hR.2.1 hk hb) hdg (fun H1 locs1 z h1 h2 => kk H1 locs1 ⟨h1, hR.2.1, z.trans hR.2.2⟩ h2)
theorem x_nputN {j : Fin 3} {x : Int32} (S : xSt E own p m c cc nL s args meth rt) (hR : xR E σ H) (hS0 : va_S (xAA E) H0 H locs) (h : xpN σ j k x = some σ') (hk : k = 2 ∨ k = 3) (hL : wLkN own idx 1 k) (hT : wPt 1 k .int false own) (hdg : decode cc pc = .ok (.putfield idx, 3))
    (kk : ∀ (H1 : Heap) (locs1 : List Loc), xR E σ' H1 → va_S (xAA E) H0 H1 locs1 → W p l e R s m args below meth c H1 locs1 cells slots Q (F0 m (pc + 3) ls rest)) : W p l e R s m args below meth c H locs cells slots Q (F0 m pc ls (.int x :: .ref (xnt E j) :: rest)) := by
  obtain rfl := Option.some.inj h
  exact w_putN S.1.1 S.2.2.1 S.2.1 hR.1 hS0 (Or.inr (Or.inl ⟨j, rfl, rfl⟩)) hL hT rfl rfl (by rcases hk with rfl | rfl <;> exact Nat.le_of_ble_eq_true rfl) (S.2.2.2.2.2.2.2.2 _ (Or.inr (Or.inl ⟨j, rfl⟩))) (fun b f hb => xW.net S.2.2.2 hR.2.1 hk hb) hdg (fun H1 locs1 z h1 h2 => kk H1 locs1 ⟨h1, hR.2.1, z.trans hR.2.2⟩ h2)
/-- dynamic cells' fields -/
theorem x_get {v : Value} (S : xSt E own p m c cc nL s args meth rt) (hR : xR E σ H) (hL : ∀ q ∈ cs, wLk own idx q.1 q.2) (h : xg σ cs a = some v) (hdg : decode cc pc = .ok (.getfield idx, 3))
    (kk : W p l e R s m args below meth c H locs cells slots Q (F0 m (pc + 3) ls (v :: rest))) : W p l e R s m args below meth c H locs cells slots Q (F0 m pc ls (.ref a :: rest)) := by
  obtain ⟨ci, k, fs, h1, h2, h3⟩ := xg_some h
  have hL := hL _ h2
  exact w_get S.1.1 S.2.1 hR.1 (xW.lk (E := E) h1 hL.lt) hL h3 hdg kk
theorem x_getN {v : Value} (S : xSt E own p m c cc nL s args meth rt) (hR : xR E σ H) (hL : ∀ q ∈ cs, wLkN own idx q.1 q.2) (h : xg σ cs a = some v) (hdg : decode cc pc = .ok (.getfield idx, 3))
    (kk : W p l e R s m args below meth c H locs cells slots Q (F0 m (pc + 3) ls (v :: rest))) : W p l e R s m args below meth c H locs cells slots Q (F0 m pc ls (.ref a :: rest)) := by
  obtain ⟨ci, k, fs, h1, h2, h3⟩ := xg_some h
  have hL := hL _ h2
  exact w_getN S.1.1 S.2.2.1 S.2.1 hR.1 (xW.lk (E := E) h1 hL.lt) hL h3 hdg kk
theorem xgI_g {v : Int32} (h : xgI σ cs a = some v) : xg σ cs a = some (.int v) := k_bind h (fun w h1 h2 => by rw [h1, vI_eq h2])
theorem xgJ_g {v : Int64} (h : xgJ σ cs a = some v) : xg σ cs a = some (.long v) := k_bind h (fun w h1 h2 => by rw [h1, vJ_eq h2])
theorem xgR_g {v : Option Nat} (h : xgR σ cs a = some v) : xg σ cs a = some (va_rf v) := k_bind h (fun w h1 h2 => by rw [h1, vRf_eq h2])
theorem x_put {v : Value} {ty : FieldType} (S : xSt E own p m c cc nL s args meth rt) (hR : xR E σ H) (hS0 : va_S (xAA E) H0 H locs) (hL : ∀ q ∈ cs, wLk own idx q.1 q.2 ∧ wPt q.1 q.2 ty false own) (hn : narrow ty v = v) (hfit : fits ty v = true) (h : xp σ cs a v = some σ') (hdg : decode cc pc = .ok (.putfield idx, 3))
    (kk : ∀ (H1 : Heap) (locs1 : List Loc), xR E σ' H1 → va_S (xAA E) H0 H1 locs1 → W p l e R s m args below meth c H1 locs1 cells slots Q (F0 m (pc + 3) ls rest)) : W p l e R s m args below meth c H locs cells slots Q (F0 m pc ls (v :: .ref a :: rest)) := by
  obtain ⟨ci, k, fs, h1, h2, h3, rfl⟩ := xp_some h
  have hL := hL _ h2
  exact w_put S.1.1 S.2.1 hR.1 hS0 (xW.lk (E := E) (xlk_D h1) hL.1.lt) hL.1 hL.2 hn hfit h3 (hR.2.1.1 _ _ h1).1 (fun b f hb => xW.dyn hR.2.1 h1 hb) hdg (fun H1 locs1 z h1' h2' => kk H1 locs1 ⟨h1', hR.2.1.dyn h1, z.trans hR.2.2⟩ h2')
theorem x_putN {v : Value} {ty : FieldType} (S : xSt E own p m c cc nL s args meth rt) (hR : xR E σ H) (hS0 : va_S (xAA E) H0 H locs) (hL : ∀ q ∈ cs, wLkN own idx q.1 q.2 ∧ wPt q.1 q.2 ty false own) (hn : narrow ty v = v) (hfit : fits ty v = true) (h : xp σ cs a v = some σ') (hdg : decode cc pc = .ok (.putfield idx, 3))
    (kk : ∀ (H1 : Heap) (locs1 : List Loc), xR E σ' H1 → va_S (xAA E) H0 H1 locs1 → W p l e R s m args below meth c H1 locs1 cells slots Q (F0 m (pc + 3) ls rest)) : W p l e R s m args below meth c H locs cells slots Q (F0 m pc ls (v :: .ref a :: rest)) := by
  obtain ⟨ci, k, fs, h1, h2, h3, rfl⟩ := xp_some h
  have hL := hL _ h2
  exact w_putN S.1.1 S.2.2.1 S.2.1 hR.1 hS0 (xW.lk (E := E) (xlk_D h1) hL.1.lt) hL.1 hL.2 hn hfit h3 (hR.2.1.1 _ _ h1).1 (fun b f hb => xW.dyn hR.2.1 h1 hb) hdg (fun H1 locs1 z h1' h2' => kk H1 locs1 ⟨h1', hR.2.1.dyn h1, z.trans hR.2.2⟩ h2')
theorem x_putF {v : Value} {ty : FieldType} (S : xSt E own p m c cc nL s args meth rt) (hin : meth.name = "<init>") (hR : xR E σ H) (hS0 : va_S (xAA E) H0 H locs) (hL : ∀ q ∈ cs, wLk own idx q.1 q.2 ∧ wPt q.1 q.2 ty true own) (hn : narrow ty v = v) (hfit : fits ty v = true) (h : xp σ cs a v = some σ') (hdg : decode cc pc = .ok (.putfield idx, 3))
    (kk : ∀ (H1 : Heap) (locs1 : List Loc), xR E σ' H1 → va_S (xAA E) H0 H1 locs1 → W p l e R s m args below meth c H1 locs1 cells slots Q (F0 m (pc + 3) ls rest)) : W p l e R s m args below meth c H locs cells slots Q (F0 m pc ls (v :: .ref a :: rest)) := by
  obtain ⟨ci, k, fs, h1, h2, h3, rfl⟩ := xp_some h
  have hL := hL _ h2
  exact w_putF S.1.1 hin S.2.1 hR.1 hS0 (xW.lk (E := E) (xlk_D h1) hL.1.lt) hL.1 hL.2 hn hfit h3 (hR.2.1.1 _ _ h1).1 (fun b f hb => xW.dyn hR.2.1 h1 hb) hdg (fun H1 locs1 z h1' h2' => kk H1 locs1 ⟨h1', hR.2.1.dyn h1, z.trans hR.2.2⟩ h2')
end XROWS
