/-! THE REFERENCE's STATE: one object, whose arrays are made once. s.1: its whole numbers and booleans by field; s.2.1: its int and boolean arrays; s.2.2: its long arrays -/
abbrev mS : Type := (Nat → Int32) × (Nat → Nat → Int32) × (Nat → Nat → Int64)
/-- the kind of a field: 0 a number, 1 an int array, 2 a long array, 3 a boolean array -/
def mty : Nat → Nat := fun k => if k = 0 ∨ k = 1 ∨ k = 6 ∨ k = 9 ∨ k = 10 ∨ k = 11 ∨ k = 12 ∨ k = 16 ∨ k = 17 ∨ k = 18 ∨ k = 19 ∨ k = 22 ∨ k = 25 ∨ k = 26 ∨ k = 30 ∨ k = 42 then 0 else if k = 34 ∨ k = 35 ∨ k = 36 ∨ k = 37 ∨ k = 38 then 2 else if k = 39 then 3 else 1
def mlen : Nat → Nat := fun k => if k = 2 ∨ k = 3 ∨ k = 4 ∨ k = 5 ∨ k = 7 ∨ k = 8 ∨ k = 23 then 12 else if k = 13 then 3 else if k = 14 ∨ k = 15 then 4096 else if k = 20 then 5 else if k = 24 then 200 else if k = 40 ∨ k = 41 then 38 else if k = 43 ∨ k = 44 ∨ k = 46 ∨ k = 47 ∨ k = 48 ∨ k = 49 then 4 else if k = 45 then 240 else 60
def sI (σ : mS) (k : Nat) (x : Int32) : mS := (fun j => if j = k then x else σ.1 j, σ.2)
def sA (σ : mS) (k i : Nat) (x : Int32) : mS := (σ.1, fun j => if j = k then upd (σ.2.1 j) i x else σ.2.1 j, σ.2.2)
def sL (σ : mS) (k i : Nat) (x : Int64) : mS := (σ.1, σ.2.1, fun j => if j = k then vp_updL (σ.2.2 j) i x else σ.2.2 j)
def mput (σ : mS) (k : Nat) (x : Int32) : Option mS := some (sI σ k x)
def mald (σ : mS) (k : Nat) (i : Int32) : Option Int32 := if mty k = 1 ∧ k < 50 ∧ ¬ (i < 0 ∨ mlen k ≤ i.toNatClampNeg) then some (σ.2.1 k i.toNatClampNeg) else none
def mzld (σ : mS) (k : Nat) (i : Int32) : Option Int32 := if mty k = 3 ∧ k < 50 ∧ ¬ (i < 0 ∨ mlen k ≤ i.toNatClampNeg) then some (σ.2.1 k i.toNatClampNeg) else none
def mlld (σ : mS) (k : Nat) (i : Int32) : Option Int64 := if mty k = 2 ∧ k < 50 ∧ ¬ (i < 0 ∨ mlen k ≤ i.toNatClampNeg) then some (σ.2.2 k i.toNatClampNeg) else none
def mast (σ : mS) (k : Nat) (i x : Int32) : Option mS := if mty k = 1 ∧ k < 50 ∧ ¬ (i < 0 ∨ mlen k ≤ i.toNatClampNeg) then some (sA σ k i.toNatClampNeg x) else none
def mzst (σ : mS) (k : Nat) (i x : Int32) : Option mS := if mty k = 3 ∧ k < 50 ∧ ¬ (i < 0 ∨ mlen k ≤ i.toNatClampNeg) then some (sA σ k i.toNatClampNeg (x &&& 1)) else none
def mlst (σ : mS) (k : Nat) (i : Int32) (x : Int64) : Option mS := if mty k = 2 ∧ k < 50 ∧ ¬ (i < 0 ∨ mlen k ≤ i.toNatClampNeg) then some (sL σ k i.toNatClampNeg x) else none
/-- where it lies: the classes' numbers, the object, its arrays, the arrays' classes (by kind) -/
abbrev mG : Type := va_G × Nat × (Nat → Nat) × (Nat → ClassId)
abbrev mo (G : mG) : Nat := G.2.1
abbrev mad (G : mG) (k : Nat) : Nat := G.2.2.1 k
def mvl (G : mG) (σ : mS) (k : Nat) : Value := if mty k = 0 then .int (σ.1 k) else .ref (mad G k)
def mct (σ : mS) (k : Nat) : vp_A := (mlen k, if mty k = 2 then .inr (.inl (σ.2.2 k)) else .inl (σ.2.1 k))
def mR (G : mG) (σ : mS) (H : Heap) : Prop := t_OB (mo G) (G.1.1 0) 50 (G.1.2 0) H (mvl G σ) ∧ ∀ k, k < 50 → mty k ≠ 0 → H[mad G k]? = some (vp_cell (G.2.2.2 (mty k)) (mct σ k))
def mOK (G : mG) : Prop := (∀ k, k < 50 → mty k ≠ 0 → mad G k ≠ mo G) ∧ ∀ j k, j < 50 → k < 50 → mty j ≠ 0 → mty k ≠ 0 → mad G j = mad G k → j = k
def mK (G : mG) (U : State) : Prop := va_K G.1 [(RX4, TX4, 50)] [(G.2.2.2 1, .int), (G.2.2.2 2, .long), (G.2.2.2 3, .boolean)] U ∧ mOK G
def mA (G : mG) : Nat → Prop := fun q => q = mo G ∨ ∃ k, k < 50 ∧ mty k ≠ 0 ∧ q = mad G k
theorem mK.moved {G : mG} {u U : State} (hvm : u.vm.Alike U.vm) (h : mK G u) : mK G U := ⟨h.1.moved hvm, h.2⟩
def mQ (G : mG) (rv : Option Value) (σ' : mS) : Array Value → State → Outcome → State → Prop := fun _ st oc t => (oc = .returned rv ∧ mR G σ' t.heap) ∧ va_F (mA G) st t
def mMet (l : Launch) (y : MethodName) (cy : ByteArray) (nLy : Nat) (rt : Option FieldType) (rm : Room) (G : mG) (av : List Value) (σ : mS) (rv : Option Value) (σ' : mS) : Prop :=
  Met l y (ws_ y cy nLy rt) rm (va_Pc av (fun U => mR G σ U.heap ∧ mK G U)) (mQ G rv σ') 0 0 (mA G)
abbrev mSt (G : mG) (p : Program) (m : MethodId) (c : Code) (cc : ByteArray) (nL : Nat) (s : State) (args : Array Value) (meth : Method) (rt : Option FieldType) : Prop :=
  wSt RX4 p m c cc nL s args meth rt ∧ mK G s
theorem mR.put {G : mG} {σ : mS} {H H' : Heap} {k : Nat} {x : Int32} {cell : Cell} (hR : mR G σ H) (hG : mOK G) (hk : k < 50) (hs : mty k = 0) (h1 : H[mo G]? = some cell) (h2 : H'[mo G]? = some (cell.setSlot (G.1.2 0 k) (.int x))) (hap : ∀ a b, a < 50 → b < 50 → a ≠ b → G.1.2 0 a ≠ G.1.2 0 b) (oq : ∀ q, q ≠ mo G → H'[q]? = H[q]?) : mR G (sI σ k x) H' := by
  obtain ⟨⟨c0, q1, q2, q3, q4⟩, ha⟩ := hR
  obtain rfl := Option.some.inj (h1.symm.trans q1)
  refine ⟨⟨_, h2, q2, q3, fun j hj => ?_⟩, fun j hj hm => ?_⟩
  · have h := t_set q4 hap hk (.int x) j hj
    rw [h]
    show some (if j = k then Value.int x else mvl G σ j) = some (mvl G (sI σ k x) j)
    by_cases e : j = k
    · subst e
      simp [mvl, hs, sI]
    · simp [mvl, sI, e]
  · rw [oq _ (hG.1 j hj hm)]
    exact ha j hj hm
theorem mR.arr {G : mG} {σ σ' : mS} {H H' : Heap} {k : Nat} (hR : mR G σ H) (hG : mOK G) (hk : k < 50) (hm : mty k ≠ 0) (h2 : H'[mad G k]? = some (vp_cell (G.2.2.2 (mty k)) (mct σ' k))) (oq : ∀ q, q ≠ mad G k → H'[q]? = H[q]?) (hi : σ'.1 = σ.1) (ho : ∀ j, j ≠ k → mct σ' j = mct σ j) : mR G σ' H' := by
  obtain ⟨h, ha⟩ := hR
  refine ⟨?_, fun j hj hm2 => ?_⟩
  · refine (h.kept (oq _ (fun q => hG.1 k hk hm q.symm))).to (fun j hj => ?_)
    simp [mvl, hi]
  · by_cases e : j = k
    · subst e
      exact h2
    · rw [oq _ (fun q => e (hG.2 j k hj hk hm2 hm q)), ho j e]
      exact ha j hj hm2
section MROWS
variable {p : Program} {l : Launch} {e : Env} {R : Room} {s : State} {m : MethodId} {args : Array Value} {below : List Frame} {meth : Method} {c : Code} {H : Heap} {locs : List Loc} {cells slots : Nat} {Q : State → Prop}
variable {cc : ByteArray} {pc nL : Nat} {ls : Array Slot} {rest : List Value} {rt : Option FieldType} {G : mG} {σ σ' : mS}
theorem m_start {y : MethodName} {cy : ByteArray} {rm : Room} {av : List Value} {rv : Option Value} (hc : plainName y.cls = true) (hy : y.cls = RX4) (hn : (lg_sl av).length ≤ nL)
    (k : ∀ (p : Program) (e : Env) (s : State) (m : MethodId) (args : Array Value) (below : List Frame) (meth : Method) (c : Code), mSt G p m c cy nL s args meth rt → mR G σ s.heap → va_S (mA G) s.heap s.heap [] → ∀ ls, lv_has ls nL (lv_args 0 av) → W p l e rm s m args below meth c s.heap [] 0 0 (MQ below (mQ G rv σ') args s 0 0 (mA G)) (F0 m 0 ls [])) : mMet l y cy nL rt rm G av σ rv σ' := by
  refine Met.ofW (cc := cy) (maxL := nL) (ret := rt) hc rfl ?_
  intro p e s m args below meth c s₁ B hml hv
  obtain ⟨rfl, hR, hK⟩ := hv
  have hts := atoms_spec (ws := ws_ y cy nL rt) B.pre
  have hts : ∀ w ∈ lw_all, w.before _ s = true := fun w h => hts w (List.mem_cons_of_mem _ h)
  have hl := lv_entry av (n := nL) hn
  rw [lg_entry_eq]
  have ho : s.vm.findClass RX4 = some m.cls := hy ▸ findClass_of_methodNamed B.named
  exact k p e s m _ below meth c ⟨⟨⟨B.exec, B.bytes, hml, ho, hts⟩, B.returns, B.notSynchronized⟩, hK⟩ hR va_S.rf _ hl
theorem m_geti {k idx : Nat} (S : mSt G p m c cc nL s args meth rt) (hR : mR G σ H) (hk : k < 50) (hs : mty k = 0) (hlk : Cond.fieldLink RX4 idx (TX4 k).1 (TX4 k).2.1 (TX4 k).2.2.1 ∈ lw_all) (hdg : decode cc pc = .ok (.getfield idx, 3))
    (kk : W p l e R s m args below meth c H locs cells slots Q (F0 m (pc + 3) ls (.int (σ.1 k) :: rest))) : W p l e R s m args below meth c H locs cells slots Q (F0 m pc ls (.ref (mo G) :: rest)) := by
  obtain ⟨⟨⟨hx, hb, hml, hown, hts⟩, hr, hlocks⟩, hK⟩ := S
  obtain ⟨⟨cell, q1, q2, q3, q4⟩, -⟩ := hR
  obtain ⟨hS, hfc, kC, hkC, hkind⟩ := hK.1.1 0 (RX4, TX4, 50) rfl
  obtain ⟨cf, kf, fi, f, hi, hsl⟩ := hS k hk
  refine W.getf hx hb hown (hts _ hlk) hi (u_facts hfc hkC (u_lays hts in_X4 hk) hi).1 q1 (by rw [q3]; exact fun h => by cases h) (v := .int (σ.1 k)) ?_ rfl rfl hdg kk
  rw [hsl, q4 k hk]
  simp [mvl, hs]
theorem m_geta {k idx : Nat} (S : mSt G p m c cc nL s args meth rt) (hR : mR G σ H) (hk : k < 50) (hs : mty k ≠ 0) (hlk : Cond.fieldLink RX4 idx (TX4 k).1 (TX4 k).2.1 (TX4 k).2.2.1 ∈ lw_all) (hdg : decode cc pc = .ok (.getfield idx, 3))
    (kk : W p l e R s m args below meth c H locs cells slots Q (F0 m (pc + 3) ls (.ref (mad G k) :: rest))) : W p l e R s m args below meth c H locs cells slots Q (F0 m pc ls (.ref (mo G) :: rest)) := by
  obtain ⟨⟨⟨hx, hb, hml, hown, hts⟩, hr, hlocks⟩, hK⟩ := S
  obtain ⟨⟨cell, q1, q2, q3, q4⟩, -⟩ := hR
  obtain ⟨hS, hfc, kC, hkC, hkind⟩ := hK.1.1 0 (RX4, TX4, 50) rfl
  obtain ⟨cf, kf, fi, f, hi, hsl⟩ := hS k hk
  refine W.getf hx hb hown (hts _ hlk) hi (u_facts hfc hkC (u_lays hts in_X4 hk) hi).1 q1 (by rw [q3]; exact fun h => by cases h) (v := .ref (mad G k)) ?_ rfl rfl hdg kk
  rw [hsl, q4 k hk]
  simp [mvl, hs]
theorem m_puti {k idx : Nat} {x : Int32} {ty : FieldType} (S : mSt G p m c cc nL s args meth rt) (hR : mR G σ H) (hS0 : va_S (mA G) s.heap H locs) (h : mput σ k x = some σ') (hk : k < 50) (hs : mty k = 0) (hfin : (TX4 k).2.2.2 = false) (hty : parseFieldDescriptor (TX4 k).2.2.1 = some ty) (hn : narrow ty (.int x) = .int x) (hfit : fits ty (.int x) = true) (hlk : Cond.fieldLink RX4 idx (TX4 k).1 (TX4 k).2.1 (TX4 k).2.2.1 ∈ lw_all) (hdg : decode cc pc = .ok (.putfield idx, 3))
    (kk : ∀ (H1 : Heap) (locs1 : List Loc), mR G σ' H1 → va_S (mA G) s.heap H1 locs1 → W p l e R s m args below meth c H1 locs1 cells slots Q (F0 m (pc + 3) ls rest)) : W p l e R s m args below meth c H locs cells slots Q (F0 m pc ls (.int x :: .ref (mo G) :: rest)) := by
  obtain ⟨⟨⟨hx, hb, hml, hown, hts⟩, hr, hlocks⟩, hK⟩ := S
  obtain rfl := Option.some.inj h
  have hap := va_apart (own := RX4) hts in_X4 tyX4 tyX4_ok nmX4 hK.1 (ci := 0) rfl
  obtain ⟨cell, q1, q2, q3, q4⟩ := hR.1
  obtain ⟨hS, hfc, kC, hkC, hkind⟩ := hK.1.1 0 (RX4, TX4, 50) rfl
  obtain ⟨cf, kf, fi, f, hi, hsl⟩ := hS k hk
  have hlay := hts _ (in_X4 _ (u_in_lay hk))
  unfold u_lay at hlay
  rw [if_neg (by rw [hfin]; decide)] at hlay
  have hst := (u_facts hfc hkC (u_lays hts in_X4 hk) hi).1
  have h6 := u_store hfc hkC hkind hlay hi hty hn hfit
  refine W.putK hx hb (f := f) ⟨hown, hts _ hlk, ⟨_, _, _, hi⟩, hst⟩ (by rw [q2]; exact h6) q1 q3 (by rw [hsl]; exact k2_hasslot (q4 k hk)) rfl rfl hdg fun H' e1 e2 e3 => ?_
  rw [hsl] at e1 ⊢
  exact kk H' _ (hR.put hK.2 hk hs q1 e1 hap e3) (hS0.put e2 e3 (Or.inl rfl))
theorem m_in {i : Int32} {n : Nat} {cA : ClassId} {f : Nat → Value} (h : ¬ (i < 0 ∨ n ≤ i.toNatClampNeg)) : ¬ (i < 0 ∨ (arrV cA n f).slots.size ≤ i.toNatClampNeg) := by rw [arrV_size]; exact h
theorem m_iald {k : Nat} {i v : Int32} (S : mSt G p m c cc nL s args meth rt) (hR : mR G σ H) (h : mald σ k i = some v) (hdg : decode cc pc = .ok (.iaload, 1))
    (kk : W p l e R s m args below meth c H locs cells slots Q (F0 m (pc + 1) ls (.int v :: rest))) : W p l e R s m args below meth c H locs cells slots Q (F0 m pc ls (.int i :: .ref (mad G k) :: rest)) := by
  obtain ⟨⟨⟨hx, hb, hml, hown, hts⟩, hr, hlocks⟩, hK⟩ := S
  unfold mald at h
  split at h
  · next q =>
    obtain ⟨h1, h2, h3⟩ := q
    obtain rfl := Option.some.inj h
    have hc := hR.2 k h2 (by rw [h1]; decide)
    rw [show mct σ k = (mlen k, .inl (σ.2.1 k)) by simp [mct, h1], h1, vp_cell_i] at hc
    exact W.iald hx hb hc ((hK.1.2 0 _ rfl).1 _ _) (fun q => by cases q) (m_in h3) (arrV_read _ _ (Nat.not_le.mp fun q => h3 (Or.inr q))) rfl rfl hdg kk
  · cases h
theorem m_zald {k : Nat} {i v : Int32} (S : mSt G p m c cc nL s args meth rt) (hR : mR G σ H) (h : mzld σ k i = some v) (hdg : decode cc pc = .ok (.baload, 1))
    (kk : W p l e R s m args below meth c H locs cells slots Q (F0 m (pc + 1) ls (.int v :: rest))) : W p l e R s m args below meth c H locs cells slots Q (F0 m pc ls (.int i :: .ref (mad G k) :: rest)) := by
  obtain ⟨⟨⟨hx, hb, hml, hown, hts⟩, hr, hlocks⟩, hK⟩ := S
  unfold mzld at h
  split at h
  · next q =>
    obtain ⟨h1, h2, h3⟩ := q
    obtain rfl := Option.some.inj h
    have hc := hR.2 k h2 (by rw [h1]; decide)
    rw [show mct σ k = (mlen k, .inl (σ.2.1 k)) by simp [mct, h1], h1, vp_cell_i] at hc
    exact W.zald hx hb hc ((hK.1.2 2 _ rfl).1 _ _) (fun q => by cases q) (m_in h3) (arrV_read _ _ (Nat.not_le.mp fun q => h3 (Or.inr q))) rfl rfl hdg kk
  · cases h
theorem m_lald {k : Nat} {i : Int32} {v : Int64} (S : mSt G p m c cc nL s args meth rt) (hR : mR G σ H) (h : mlld σ k i = some v) (hdg : decode cc pc = .ok (.laload, 1))
    (kk : W p l e R s m args below meth c H locs cells slots Q (F0 m (pc + 1) ls (.long v :: rest))) : W p l e R s m args below meth c H locs cells slots Q (F0 m pc ls (.int i :: .ref (mad G k) :: rest)) := by
  obtain ⟨⟨⟨hx, hb, hml, hown, hts⟩, hr, hlocks⟩, hK⟩ := S
  unfold mlld at h
  split at h
  · next q =>
    obtain ⟨h1, h2, h3⟩ := q
    obtain rfl := Option.some.inj h
    have hc := hR.2 k h2 (by rw [h1]; decide)
    rw [show mct σ k = (mlen k, .inr (.inl (σ.2.2 k))) by simp [mct, h1], h1, vp_cell_l] at hc
    exact W.lald hx hb hc ((hK.1.2 1 _ rfl).1 _ _) (fun q => by cases q) (m_in h3) (arrV_read _ _ (Nat.not_le.mp fun q => h3 (Or.inr q))) rfl rfl hdg kk
  · cases h
theorem m_iast {k : Nat} {i x : Int32} (S : mSt G p m c cc nL s args meth rt) (hR : mR G σ H) (hS : va_S (mA G) s.heap H locs) (h : mast σ k i x = some σ') (hdg : decode cc pc = .ok (.iastore, 1))
    (kk : ∀ (H1 : Heap) (locs1 : List Loc), mR G σ' H1 → va_S (mA G) s.heap H1 locs1 → W p l e R s m args below meth c H1 locs1 cells slots Q (F0 m (pc + 1) ls rest)) : W p l e R s m args below meth c H locs cells slots Q (F0 m pc ls (.int x :: .int i :: .ref (mad G k) :: rest)) := by
  obtain ⟨⟨⟨hx, hb, hml, hown, hts⟩, hr, hlocks⟩, hK⟩ := S
  unfold mast at h
  split at h
  · next q =>
    obtain ⟨h1, h2, h3⟩ := q
    obtain rfl := Option.some.inj h
    have hm : mty k ≠ 0 := by rw [h1]; decide
    have hc := hR.2 k h2 hm
    rw [show mct σ k = (mlen k, .inl (σ.2.1 k)) by simp [mct, h1], h1, vp_cell_i] at hc
    refine W.iast hx hb hc ((hK.1.2 0 _ rfl).1 _ _) (fun q => by cases q) (m_in h3) rfl rfl hdg fun H1 e z oq => ?_
    refine kk H1 _ (hR.arr hK.2 h2 hm ?_ oq rfl (fun j hj => by simp [mct, sA, hj])) (hS.put z oq (Or.inr ⟨k, h2, hm, rfl⟩))
    rw [e, show mct (sA σ k i.toNatClampNeg x) k = (mlen k, .inl (upd (σ.2.1 k) i.toNatClampNeg x)) by simp [mct, h1, sA], h1, vp_cell_i, arrV_store]
    congr 2
    funext q
    by_cases hq : q = i.toNatClampNeg
    · subst hq
      simp [updV, upd]
    · simp [updV, upd, hq]
  · cases h
theorem m_zast {k : Nat} {i x : Int32} (S : mSt G p m c cc nL s args meth rt) (hR : mR G σ H) (hS : va_S (mA G) s.heap H locs) (h : mzst σ k i x = some σ') (hdg : decode cc pc = .ok (.bastore, 1))
    (kk : ∀ (H1 : Heap) (locs1 : List Loc), mR G σ' H1 → va_S (mA G) s.heap H1 locs1 → W p l e R s m args below meth c H1 locs1 cells slots Q (F0 m (pc + 1) ls rest)) : W p l e R s m args below meth c H locs cells slots Q (F0 m pc ls (.int x :: .int i :: .ref (mad G k) :: rest)) := by
  obtain ⟨⟨⟨hx, hb, hml, hown, hts⟩, hr, hlocks⟩, hK⟩ := S
  unfold mzst at h
  split at h
  · next q =>
    obtain ⟨h1, h2, h3⟩ := q
    obtain rfl := Option.some.inj h
    have hm : mty k ≠ 0 := by rw [h1]; decide
    have hc := hR.2 k h2 hm
    rw [show mct σ k = (mlen k, .inl (σ.2.1 k)) by simp [mct, h1], h1, vp_cell_i] at hc
    refine W.zast hx hb hc ((hK.1.2 2 _ rfl).1 _ _) (fun q => by cases q) (m_in h3) rfl rfl hdg fun H1 e z oq => ?_
    refine kk H1 _ (hR.arr hK.2 h2 hm ?_ oq rfl (fun j hj => by simp [mct, sA, hj])) (hS.put z oq (Or.inr ⟨k, h2, hm, rfl⟩))
    rw [e, show mct (sA σ k i.toNatClampNeg (x &&& 1)) k = (mlen k, .inl (upd (σ.2.1 k) i.toNatClampNeg (x &&& 1))) by simp [mct, h1, sA], h1, vp_cell_i, arrV_store]
    congr 2
    funext q
    by_cases hq : q = i.toNatClampNeg
    · subst hq
      simp [updV, upd, narrow]
    · simp [updV, upd, hq]
  · cases h
theorem m_last {k : Nat} {i : Int32} {x : Int64} (S : mSt G p m c cc nL s args meth rt) (hR : mR G σ H) (hS : va_S (mA G) s.heap H locs) (h : mlst σ k i x = some σ') (hdg : decode cc pc = .ok (.lastore, 1))
    (kk : ∀ (H1 : Heap) (locs1 : List Loc), mR G σ' H1 → va_S (mA G) s.heap H1 locs1 → W p l e R s m args below meth c H1 locs1 cells slots Q (F0 m (pc + 1) ls rest)) : W p l e R s m args below meth c H locs cells slots Q (F0 m pc ls (.long x :: .int i :: .ref (mad G k) :: rest)) := by
  obtain ⟨⟨⟨hx, hb, hml, hown, hts⟩, hr, hlocks⟩, hK⟩ := S
  unfold mlst at h
  split at h
  · next q =>
    obtain ⟨h1, h2, h3⟩ := q
    obtain rfl := Option.some.inj h
    have hm : mty k ≠ 0 := by rw [h1]; decide
    have hc := hR.2 k h2 hm
    rw [show mct σ k = (mlen k, .inr (.inl (σ.2.2 k))) by simp [mct, h1], h1, vp_cell_l] at hc
    refine W.last hx hb hc ((hK.1.2 1 _ rfl).1 _ _) (fun q => by cases q) (m_in h3) rfl rfl hdg fun H1 e z oq => ?_
    refine kk H1 _ (hR.arr hK.2 h2 hm ?_ oq rfl (fun j hj => by simp [mct, sL, hj])) (hS.put z oq (Or.inr ⟨k, h2, hm, rfl⟩))
    rw [e, show mct (sL σ k i.toNatClampNeg x) k = (mlen k, .inr (.inl (vp_updL (σ.2.2 k) i.toNatClampNeg x))) by simp [mct, h1, sL], h1, vp_cell_l, arrV_store]
    congr 2
    funext q
    by_cases hq : q = i.toNatClampNeg
    · subst hq
      simp [updV, vp_updL]
    · simp [updV, vp_updL, hq]
  · cases h
theorem m_iret {v w : Int32} {ty : FieldType} (S : mSt G p m c cc nL s args meth (some ty)) (hR : mR G σ H) (hS : va_S (mA G) s.heap H locs) (hn : narrow ty (.int v) = .int w) (hdg : decode cc pc = .ok (.ireturn, 1)) : W p l e R s m args below meth c H locs 0 0 (MQ below (mQ G (some (.int w)) σ) args s 0 0 (mA G)) (F0 m pc ls [.int v]) := by
  obtain ⟨⟨⟨hx, hb, -⟩, hr, hlocks⟩, hK⟩ := S
  intro T hT X
  obtain ⟨fs, hret, hrun, hended, hW, hframe⟩ := X.leave (v := some (.int w)) (fun h => by rw [hr] at h; cases h)
  have hmeth' : T.vm.method? m = some meth := X.method'
  refine ⟨T.setFrames fs, ?_, .returned (some (.int w)), hrun, hended, ⟨⟨rfl, by rw [show (T.setFrames fs).heap = H from hT]; exact hR⟩, hS.F hT⟩, locs, ⟨⟨_, rfl⟩, hW, hframe⟩, hS.2.2⟩
  jvm_step X.here [X.here.top, hx, hb, hdg, hmeth', hr, hn]
  (try refine ⟨rfl, ?_⟩); (try refine ⟨rfl, ?_⟩)
  first | (intro acts; rw [hret _ acts rfl rfl rfl]) | rw [hret _ _ rfl rfl rfl]
  exact Steps.refl _
theorem m_lret {v : Int64} (S : mSt G p m c cc nL s args meth (some .long)) (hR : mR G σ H) (hS : va_S (mA G) s.heap H locs) (hdg : decode cc pc = .ok (.lreturn, 1)) : W p l e R s m args below meth c H locs 0 0 (MQ below (mQ G (some (.long v)) σ) args s 0 0 (mA G)) (F0 m pc ls [.long v]) := by
  obtain ⟨⟨⟨hx, hb, -⟩, hr, hlocks⟩, hK⟩ := S
  exact W.lret hx hb hr (fun t ht _ => ⟨⟨rfl, by rw [ht]; exact hR⟩, hS.F ht⟩) hS.2.2 hdg hlocks
theorem m_vret (S : mSt G p m c cc nL s args meth none) (hR : mR G σ H) (hS : va_S (mA G) s.heap H locs) (hdg : decode cc pc = .ok (.return_, 1)) : W p l e R s m args below meth c H locs 0 0 (MQ below (mQ G none σ) args s 0 0 (mA G)) (F0 m pc ls []) := by
  obtain ⟨⟨⟨hx, hb, -⟩, hr, hlocks⟩, hK⟩ := S
  exact W.vret hx hb hr (fun t ht _ => ⟨⟨rfl, by rw [ht]; exact hR⟩, hS.F ht⟩) hS.2.2 hdg hlocks
/-- a call of one of its own methods -/
theorem m_call {y : MethodName} {cy : ByteArray} {nLy n idx : Nat} {rty : Option FieldType} {rm : Room} {As st : List Value} {rv : Option Value} (S : mSt G p m c cc nL s args meth rt) (hR : mR G σ H) (hS : va_S (mA G) s.heap H locs) (hM : mMet l y cy nLy rty rm G (.ref (mo G) :: As) σ rv σ') (hI : wInfV y cy nLy rty n) (hy : y.cls = RX4) (hlk : Cond.methodLink RX4 idx y ∈ lw_all) (hrm : rm.cells = 0 ∧ rm.slots = 0) (hro1 : rm.frames + 1 ≤ R.frames ∧ 8 + (nLy + 11) + rm.locals ≤ R.locals) (hn : As.length = n) (hl : ls.size = nL) (hst : st = As.reverse ++ .ref (mo G) :: rest) (hro : (rest.map fun v => v.category).sum ≤ 8) (hdg : decode cc pc = .ok (.invokevirtual idx, 3))
    (kk : ∀ (H1 : Heap) (locs1 : List Loc), mR G σ' H1 → va_S (mA G) s.heap H1 locs1 → W p l e R s m args below meth c H1 locs1 0 0 Q (F0 m (pc + 3) ls (rv.toList ++ rest))) : W p l e R s m args below meth c H locs 0 0 Q (F0 m pc ls st) := by
  subst hst
  obtain ⟨h1, h2, h3, h4, h5⟩ := hI
  obtain ⟨⟨C, hr, hlocks⟩, hK⟩ := S
  have hrc : ∃ cell : Cell, H[mo G]? = some cell ∧ cell.vm.isStatics = false ∧ s.vm.findClass RX4 = some cell.cls := by
    obtain ⟨cell, q1, q2, q3, q4⟩ := hR.1
    obtain ⟨_, hfc, _⟩ := hK.1.1 0 (RX4, TX4, 50) rfl
    exact ⟨cell, q1, by rw [q3]; rfl, by rw [q2]; exact hfc⟩
  have hr := va_runV (e := e) (meth := meth) (below := below) (H := H) (locs := locs) (cells := 0) (slots := 0) (g := F0 m pc ls (As.reverse ++ .ref (mo G) :: rest)) (b := mo G) (As := As) (rest := rest) (C := RX4) C hM (cwV n C.2.2.2.2 (lw_V hlk h1 (hy ▸ h2) (hy ▸ h3) h4) rfl hrm.1 hrm.2 ⟨hy, h5⟩ hro1) ⟨fun a U g mk q => ⟨q.1, q.2.1, mK.moved (U := U.calling g mk a) (Vm.Alike.refl U.vm) q.2.2⟩, hrc, fun U hU hW => ⟨rfl, by rw [hU]; exact hR, hK.moved hW.alike⟩⟩ rfl hn hl rfl (lv_room hro) hdg ⟨Nat.zero_le _, Nat.zero_le _⟩
  intro T hT X
  obtain ⟨v, st₀, t, T', L, h0, X', hL, e1, e2, ⟨⟨hv, hh⟩, hz, hk⟩, st⟩ := hr T hT X
  cases hv
  rw [h0] at hz hk
  obtain ⟨t2, a1, b1⟩ := kk T'.heap (locs ++ L) (by rw [e1]; exact hh) ⟨Nat.le_trans hS.1 (by rw [e1]; exact hz), fun q h1 h2 => by rw [e1, hk q (Nat.lt_of_lt_of_le h1 hS.1) h2]; exact hS.2.1 q h1 h2, fun q hq => by
      rcases List.mem_append.mp hq with h | h
      · exact hS.2.2 q h
      · exact hL q h⟩ T' rfl X'
  exact ⟨t2, st t2 a1, b1⟩
end MROWS
