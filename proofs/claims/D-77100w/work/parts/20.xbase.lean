/-! THE COMPONENT's STATE. Static: the object (its numbers by field), its three nets (0 net, 1 kept, 2 aside: numbers by field), their arrays (by number: 0 pairOf 1 halves 2 rules 3 rounds 4 bestPack 5 nodeRow 6 rest 7 tape 8 sheets 9 shelves; 10 + 2 j: net j's points, 11 + 2 j: its next). Dynamic: cells by address. Constants: cells that nobody writes. How many cells there are, and how many fields and elements were made so far -/
abbrev xE : Type := (Nat × vp_A) ⊕ (Nat × List Value)
abbrev xS : Type := (Nat → Int32) × (Fin 3 → Nat → Int32) × (Nat → Nat → Int32) × (Nat → Nat → Option Nat) × (Nat → Option Nat) × (Nat → Option xE) × (Nat → Option xE) × Nat × Nat
abbrev xI (σ : xS) (k : Nat) : Int32 := σ.1 k
abbrev xN (σ : xS) (j : Fin 3) (k : Nat) : Int32 := σ.2.1 j k
abbrev xA (σ : xS) (i : Nat) : Nat → Int32 := σ.2.2.1 i
abbrev xRA (σ : xS) (i : Nat) : Nat → Option Nat := σ.2.2.2.1 i
/-- single references: 0 twigs, 1 paid; and where static things lie: 2, 3, 4 the nets, 5 the object, 6 the tape -/
abbrev xT (σ : xS) : Nat → Option Nat := σ.2.2.2.2.1
abbrev xD (σ : xS) : Nat → Option xE := σ.2.2.2.2.2.1
abbrev xC (σ : xS) : Nat → Option xE := σ.2.2.2.2.2.2.1
abbrev xnx (σ : xS) : Nat := σ.2.2.2.2.2.2.2.1
abbrev xns (σ : xS) : Nat := σ.2.2.2.2.2.2.2.2
def xuI (σ : xS) (k : Nat) (v : Int32) : xS := (fun q => if q = k then v else σ.1 q, σ.2)
def xuN (σ : xS) (j : Fin 3) (k : Nat) (v : Int32) : xS := (σ.1, fun a q => if a = j ∧ q = k then v else σ.2.1 a q, σ.2.2)
def xuA (σ : xS) (i k : Nat) (v : Int32) : xS := (σ.1, σ.2.1, fun a => if a = i then upd (σ.2.2.1 a) k v else σ.2.2.1 a, σ.2.2.2)
def xuR (σ : xS) (i k : Nat) (v : Option Nat) : xS := (σ.1, σ.2.1, σ.2.2.1, fun a => if a = i then va_up (σ.2.2.2.1 a) k v else σ.2.2.2.1 a, σ.2.2.2.2)
def xuT (σ : xS) (v : Option Nat) : xS := (σ.1, σ.2.1, σ.2.2.1, σ.2.2.2.1, fun q => if q = 0 then v else σ.2.2.2.2.1 q, σ.2.2.2.2.2)
def xuD (σ : xS) (a : Nat) (z : xE) : xS := (σ.1, σ.2.1, σ.2.2.1, σ.2.2.2.1, σ.2.2.2.2.1, fun q => if q = a then some z else σ.2.2.2.2.2.1 q, σ.2.2.2.2.2.2)
/-- a cell of n places is made -/
def xuM (σ : xS) (z : xE) (n : Nat) : xS := (σ.1, σ.2.1, σ.2.2.1, σ.2.2.2.1, σ.2.2.2.2.1, fun q => if q = xnx σ then some z else σ.2.2.2.2.2.1 q, σ.2.2.2.2.2.2.1, xnx σ + 1, xns σ + n)
/-- kinds of arrays: 1 int 2 byte 3 short 4 long 5 boolean, then of references -/
def xty : Nat → FieldType := fun t => match t with
  | 1 => .int | 2 => .byte | 3 => .short | 4 => .long | 5 => .boolean
  | 6 => .object "LinesTouched$Point" | 7 => .object "LinesTouched$Round" | 8 => .object "LinesTouched$Node" | 9 => .object "LinesTouched$Rule" | 10 => .object "LinesTouched$Slot" | 11 => .object "LinesTouched$Twig" | 12 => .object "LinesTouched$Tally" | 13 => .object "java/util/HashMap$Node" | 14 => .object "java/lang/String" | _ => .object "java/lang/Object"
def xak : Nat → Nat := fun i => match i with
  | 0 => 1 | 1 => 2 | 2 => 9 | 3 => 7 | 4 => 3 | 5 => 8 | 6 => 1 | 7 => 2 | 8 => 10 | 9 => 10 | 10 => 6 | 11 => 1 | 12 => 6 | 13 => 1 | 14 => 6 | 15 => 1 | _ => 0
def xal : Nat → Nat := fun i => match i with
  | 2 => 4 | 4 => 4096 | 5 => 500 | 7 => 200 | 8 => 4 | 9 => 4 | _ => 12
/-- where it lies: classes' numbers; the object; the nets; the static arrays; the array classes by kind; paid; the first cell that may be written; cells that are others' -/
abbrev xG : Type := va_G × Nat × (Fin 3 → Nat) × (Nat → Nat) × (Nat → ClassId) × Nat × Nat × (Nat → Prop)
abbrev xo (E : xG) : Nat := E.2.1
abbrev xnt (E : xG) (j : Fin 3) : Nat := E.2.2.1 j
abbrev xar (E : xG) (i : Nat) : Nat := E.2.2.2.1 i
abbrev xtc (E : xG) (t : Nat) : ClassId := E.2.2.2.2.1 t
abbrev xpd (E : xG) : Nat := E.2.2.2.2.2.1
abbrev xbs (E : xG) : Nat := E.2.2.2.2.2.2.1
abbrev xex (E : xG) : Nat → Prop := E.2.2.2.2.2.2.2
def xcl : List vw_C := [(RX0, TX0, 32), (RX1, TX1, 4), (RX2, TX2, 3), (RX3, TX3, 1), (RX5, TX5, 2), (RX6, TX6, 2), (RX7, TX7, 2), (RX8, TX8, 2), (RX9, TX9, 2), (RX10, TX10, 2), (RX13, TX13, 9), (RX14, TX14, 4), (RX15, TX15, 1), (RX16, TX16, 5), (RX17, TX17, 7), (RX18, TX18, 6), (RX19, TX19, 2), (RX20, TX20, 9), (RX21, TX21, 7), (RX22, TX22, 7), (RX23, TX23, 2), (RX24, TX24, 1), (RJ1, TJ1, 1), (RJ4, TJ4, 8), (RJ5, TJ5, 12), (RJ9, TJ9, 1), (RJ14, TJ14, 4), (RJ15, TJ15, 6), (RJ17, TJ17, 11), (RJ23, TJ23, 2), (RJ30, TJ30, 5), (RJ10, TJ10, 2)]
def xtys (E : xG) : List (ClassId × FieldType) := (List.range 16).map (fun t => (xtc E t, xty t))
def xF0 (E : xG) (σ : xS) : List Value := [.ref (xnt E 0), .ref (xnt E 1), .ref (xnt E 2), .int (xI σ 3), .int (xI σ 4), .int (xI σ 5), .int (xI σ 6), .ref (xar E 0), .int (xI σ 8), .ref (xar E 1), .ref (xar E 2), .ref (xar E 3), .int (xI σ 12), .int (xI σ 13), .int (xI σ 14), .int (xI σ 15), .ref (xar E 4), .ref (xar E 5), .int (xI σ 18), .int (xI σ 19), .int (xI σ 20), .int (xI σ 21), .int (xI σ 22), .int (xI σ 23), va_rf (xT σ 1), .ref (xar E 6), .ref (xar E 7), .int (xI σ 27), va_rf (xT σ 0), .int (xI σ 29), .ref (xar E 8), .ref (xar E 9)]
def xF1 (E : xG) (σ : xS) (j : Fin 3) : List Value := [.ref (xar E (10 + 2 * j.val)), .ref (xar E (11 + 2 * j.val)), .int (xN σ j 2), .int (xN σ j 3)]
def xct (σ : xS) (i : Nat) : vp_A := (xal i, if xak i ≤ 5 then .inl (xA σ i) else .inr (.inr (.inr (.inr (xRA σ i)))))
def xto (E : xG) (z : xE) : va_E := match z with
  | .inl q => .inl (xtc E q.1, q.2)
  | .inr q => .inr q
/-- an ordinary cell: no object of a made class (these have class numbers from 64 on) -/
def xreg (z : xE) : Prop := match z with
  | .inl q => q.1 < 16
  | .inr q => q.1 < 64
def xst (E : xG) (a : Nat) : Prop := a = xo E ∨ (∃ j, a = xnt E j) ∨ ∃ i, i < 16 ∧ a = xar E i
def xW (E : xG) (σ : xS) (a : Nat) (e : va_E) : Prop := (a = xo E ∧ e = .inr (0, xF0 E σ)) ∨ (∃ j, a = xnt E j ∧ e = .inr (1, xF1 E σ j)) ∨ (∃ i, i < 16 ∧ a = xar E i ∧ e = .inl (xtc E (xak i), xct σ i)) ∨ (∃ z, xD σ a = some z ∧ xreg z ∧ e = xto E z) ∨ (∃ z, xC σ a = some z ∧ xreg z ∧ e = xto E z)
def xOK (E : xG) : Prop := (∀ j, xnt E j ≠ xo E) ∧ (∀ i, i < 16 → xar E i ≠ xo E) ∧ (∀ i j, i < 16 → xar E i ≠ xnt E j) ∧ (∀ i j, xnt E i = xnt E j → i = j) ∧ (∀ i j, i < 16 → j < 16 → xar E i = xar E j → i = j) ∧ ∀ a, xst E a → xbs E ≤ a ∧ ¬ xex E a
def xAA (E : xG) : Nat → Prop := fun q => xbs E ≤ q ∧ ¬ xex E q
def isNest : Cond → Bool
  | .fieldLinkNest _ _ _ _ _ _ => true
  | .methodLinkNest _ _ _ _ => true
  | .castable _ _ => true
  | .declares _ => true
  | .arrayOver (.object _) => true
  | _ => false
def xNK (U : State) : Prop := ∀ w ∈ lw_tbl, isNest w = true → va_Nw w U
theorem xNK.warm {s U : State} (hW : s.WarmedH U.vm) (h : xNK s) : xNK U := by
  intro w hw hn
  have h1 := h w hw hn
  cases w with
  | fieldLinkNest => exact h1.warmF hW
  | methodLinkNest => exact h1.warmM hW
  | castable => exact h1.warmC hW
  | declares => exact h1.warmD hW
  | arrayOver t =>
    cases t with
    | object C => exact va_AO.moved hW.alike h1
    | _ => exact absurd hn Bool.false_ne_true
  | _ => exact absurd hn Bool.false_ne_true
theorem xNK.same {s U : State} (hv : s.vm = U.vm) (h : xNK s) : xNK U := by
  intro w hw hn
  have h1 := h w hw hn
  cases w with
  | fieldLinkNest => exact h1.same rfl hv
  | methodLinkNest => exact h1.same rfl hv
  | castable => exact h1.same rfl hv
  | declares => exact h1.same rfl hv
  | arrayOver t =>
    cases t with
    | object C => exact va_AO.moved (by rw [hv]; exact Vm.Alike.refl _) h1
    | _ => exact absurd hn Bool.false_ne_true
  | _ => exact absurd hn Bool.false_ne_true
def xK (E : xG) (U : State) : Prop := va_K E.1 xcl (xtys E) U ∧ xNK U ∧ xOK E
theorem xK.warm {E : xG} {s U : State} (hW : s.WarmedH U.vm) (h : xK E s) : xK E U := ⟨h.1.moved hW.alike, h.2.1.warm hW, h.2.2⟩
theorem xK.same {E : xG} {s U : State} (hv : s.vm = U.vm) (h : xK E s) : xK E U := ⟨h.1.moved (by rw [hv]; exact Vm.Alike.refl _), h.2.1.same hv, h.2.2⟩
/-- the heap holds a world -/
def wR (D : va_G) (cl : List vw_C) (P : Nat → va_E → Prop) (H : Heap) : Prop := ∀ a e, P a e → va_at D cl (a, e) H
/-- what stands beside the cells -/
def xB (E : xG) (σ : xS) : Prop := (∀ a z, xD σ a = some z → xAA E a ∧ ¬ xst E a) ∧ (∀ a z, xC σ a = some z → a < xbs E) ∧ xbs E ≤ xnx σ ∧ (∀ a, xex E a → a < xnx σ) ∧ (∀ a z, xD σ a = some z → a < xnx σ) ∧ (∀ j : Fin 3, xT σ (2 + j.val) = some (xnt E j)) ∧ xT σ 5 = some (xo E) ∧ xT σ 6 = some (xar E 7)
def xR (E : xG) (σ : xS) (H : Heap) : Prop := wR E.1 xcl (xW E σ) H ∧ xB E σ ∧ H.size = xnx σ
def xQ (E : xG) (rv : Option Value) (σ' : xS) : Array Value → State → Outcome → State → Prop := fun _ st oc t => (oc = .returned rv ∧ xR E σ' t.heap) ∧ va_F (xAA E) st t
/-- room: frames and words of locals, cells, fields and elements -/
def xRm (F L c n : Nat) : Room := { frames := F, cells := c, slots := n, locals := L }
def xMet (l : Launch) (y : MethodName) (cy : ByteArray) (nLy : Nat) (rt : Option FieldType) (F L : Nat) (E : xG) (av : List Value) (σ : xS) (rv : Option Value) (σ' : xS) : Prop :=
  Met l y (ws_ y cy nLy rt) (xRm F L (xnx σ' - xnx σ) (xns σ' - xns σ)) (va_Pc av (fun U => xR E σ U.heap ∧ xK E U)) (xQ E rv σ') (xnx σ' - xnx σ) (xns σ' - xns σ) (xAA E)
abbrev xSt (E : xG) (own : String) (p : Program) (m : MethodId) (c : Code) (cc : ByteArray) (nL : Nat) (s : State) (args : Array Value) (meth : Method) (rt : Option FieldType) : Prop :=
  wSt own p m c cc nL s args meth rt ∧ xK E s
/-- a field by class number and place, as the code of the class own names it -/
def wLk (own : String) (idx ci k : Nat) : Prop := ∃ (C : String) (T : u_T) (N : Nat) (ref : String), xcl[ci]? = some (C, T, N) ∧ k < N ∧ (∀ w ∈ u_ws C T N, w ∈ lw_all) ∧ Cond.fieldLink own idx ref (T k).2.1 (T k).2.2.1 ∈ lw_all ∧ ((T k).1 = ref ∨ Cond.sameField ref (T k).1 (T k).2.1 (T k).2.2.1 ∈ lw_all)
def wLkN (own : String) (idx ci k : Nat) : Prop := ∃ (C : String) (T : u_T) (N : Nat) (host : String), xcl[ci]? = some (C, T, N) ∧ k < N ∧ (∀ w ∈ u_ws C T N, w ∈ lw_all) ∧ Cond.fieldLinkNest own idx (T k).1 (T k).2.1 (T k).2.2.1 host ∈ lw_tbl
/-- and it may be written: its type, whether it's final -/
def wPt (ci k : Nat) (ty : FieldType) (fin : Bool) (own : String) : Prop := ∃ (C : String) (T : u_T) (N : Nat) (ty0 : Nat → FieldType), xcl[ci]? = some (C, T, N) ∧ k < N ∧ (T k).2.2.2 = fin ∧ parseFieldDescriptor (T k).2.2.1 = some ty ∧ (∀ a, a < N → ∀ b, b < N → a ≠ b → (T a).2.1 ≠ (T b).2.1) ∧ (∀ k, k < N → parseFieldDescriptor (T k).2.2.1 = some (ty0 k)) ∧ (fin = true → (T k).1 = own)
theorem wtys {D : va_G} {E : xG} {s : State} {t : Nat} (hK : va_K D xcl (xtys E) s) (ht : t < 16) : ArrOfT s (xtc E t) (xty t) ∧ va_RA s (xtc E t) (xty t) := hK.2 t (xtc E t, xty t) (by simp [xtys, ht])
section WROWS
variable {p : Program} {l : Launch} {e : Env} {R : Room} {s : State} {m : MethodId} {args : Array Value} {below : List Frame} {meth : Method} {c : Code} {H : Heap} {locs : List Loc} {cells slots : Nat} {Q : State → Prop}
variable {cc : ByteArray} {pc nL : Nat} {ls : Array Slot} {rest : List Value} {rt : Option FieldType} {own : String} {P P' : Nat → va_E → Prop} {A : Nat → Prop} {a idx ci k : Nat} {fs : List Value} {v : Value} {D : va_G} {tys : List (ClassId × FieldType)} {H0 : Heap}
theorem w_found {ref nm d : String} (C : CallFix p m c cc nL s args lw_all own) (h4 : Cond.fieldLink own idx ref nm d ∈ lw_all) : ∃ y, s.fieldFound? ref nm d = some y := by
  obtain ⟨_, _, _, _, _, hf, -⟩ := Cond.fieldLink_spec C.2.2.2.1 (C.2.2.2.2 _ h4) {} rfl
  exact ⟨_, hf⟩
theorem w_same {ref : String} {T : u_T} (C : CallFix p m c cc nL s args lw_all own) (h : (T k).1 = ref ∨ Cond.sameField ref (T k).1 (T k).2.1 (T k).2.2.1 ∈ lw_all) (hi2 : ∃ y, s.fieldFound? ref (T k).2.1 (T k).2.2.1 = some y) : ∀ x, s.fieldFound? (T k).1 (T k).2.1 (T k).2.2.1 = some x → s.fieldFound? ref (T k).2.1 (T k).2.2.1 = some x := by
  intro x hx
  rcases h with h | h
  · rw [← h]; exact hx
  · obtain ⟨⟨c0, k0, i0, f0⟩, hy⟩ := hi2
    have h2 := Cond.sameField_spec hy (C.2.2.2.2 _ h)
    rw [hy, ← h2]
    exact hx
theorem w_get (C : CallFix p m c cc nL s args lw_all own) (hK : va_K D xcl tys s) (hR : wR D xcl P H) (hP : P a (.inr (ci, fs))) (hL : wLk own idx ci k) (hv : fs[k]? = some v) (hdg : decode cc pc = .ok (.getfield idx, 3))
    (kk : W p l e R s m args below meth c H locs cells slots Q (F0 m (pc + 3) ls (v :: rest))) : W p l e R s m args below meth c H locs cells slots Q (F0 m pc ls (.ref a :: rest)) := by
  obtain ⟨C0, T, N, ref, h1, h2, h3, h4, h5⟩ := hL
  refine va_get (ws := [(a, .inr (ci, fs))]) C.1 C.2.1 C.2.2.2.2 h3 C.2.2.2.1 hK (fun k q hk => ?_) 0 rfl h1 k h2 (C.2.2.2.2 _ h4) (w_same C h5 ?_) hv hdg kk
  · have : k < 1 := (List.getElem?_eq_some_iff.mp hk).1
    obtain rfl : k = 0 := by omega
    cases hk
    exact hR _ _ hP
  · exact w_found C h4
theorem w_getN (C : CallFix p m c cc nL s args lw_all own) (hN : xNK s) (hK : va_K D xcl tys s) (hR : wR D xcl P H) (hP : P a (.inr (ci, fs))) (hL : wLkN own idx ci k) (hv : fs[k]? = some v) (hdg : decode cc pc = .ok (.getfield idx, 3))
    (kk : W p l e R s m args below meth c H locs cells slots Q (F0 m (pc + 3) ls (v :: rest))) : W p l e R s m args below meth c H locs cells slots Q (F0 m pc ls (.ref a :: rest)) := by
  obtain ⟨C0, T, N, host, h1, h2, h3, h4⟩ := hL
  refine va_getN (ws := [(a, .inr (ci, fs))]) C.1 C.2.1 C.2.2.2.2 h3 C.2.2.2.1 hK (fun k q hk => ?_) 0 rfl h1 k h2 ((hN _ h4 rfl).use rfl) (fun _ h => h) hv hdg kk
  have : k < 1 := (List.getElem?_eq_some_iff.mp hk).1
  obtain rfl : k = 0 := by omega
  cases hk
  exact hR _ _ hP
/-- what a write leaves: one cell anew, the others as they were -/
theorem wR.put {e' : va_E} {H1 : Heap} (hR : wR D xcl P H) (he : va_at D xcl (a, e') H1) (oq : ∀ q, q ≠ a → H1[q]? = H[q]?) (hP' : ∀ b f, P' b f → (b = a ∧ f = e') ∨ (b ≠ a ∧ P b f)) : wR D xcl P' H1 := by
  intro b f hb
  rcases hP' b f hb with ⟨rfl, rfl⟩ | ⟨h1, h2⟩
  · exact he
  · exact (hR b f h2).kept (oq b h1)
theorem w_at {cell : Cell} {C0 : String} {T : u_T} {N : Nat} {H1 : Heap} (h1 : xcl[ci]? = some (C0, T, N)) (q2 : cell.cls = D.1 ci) (q3 : cell.vm = .none) (q4 : ∀ j, j < N → cell.slots[D.2 ci j]? = some (vp_V fs j)) (hap : ∀ x y, x < N → y < N → x ≠ y → D.2 ci x ≠ D.2 ci y) (hk : k < N) (hl : k < fs.length) (e1 : H1[a]? = some (cell.setSlot (D.2 ci k) v)) : va_at D xcl (a, .inr (ci, fs.set k v)) H1 :=
  ⟨_, h1, t_OB.to (V := updV (vp_V fs) k v) ⟨_, e1, q2, q3, t_set q4 hap hk v⟩ (fun j _ => vp_updV_set hl v j)⟩
theorem w_put {ty : FieldType} (C : CallFix p m c cc nL s args lw_all own) (hK : va_K D xcl tys s) (hR : wR D xcl P H) (hS0 : va_S A H0 H locs) (hP : P a (.inr (ci, fs))) (hL : wLk own idx ci k) (hT : wPt ci k ty false own) (hn : narrow ty v = v) (hfit : fits ty v = true) (hl : k < fs.length) (hA : A a) (hP' : ∀ b f, P' b f → (b = a ∧ f = .inr (ci, fs.set k v)) ∨ (b ≠ a ∧ P b f)) (hdg : decode cc pc = .ok (.putfield idx, 3))
    (kk : ∀ (H1 : Heap) (locs1 : List Loc), H1.size = H.size → wR D xcl P' H1 → va_S A H0 H1 locs1 → W p l e R s m args below meth c H1 locs1 cells slots Q (F0 m (pc + 3) ls rest)) : W p l e R s m args below meth c H locs cells slots Q (F0 m pc ls (v :: .ref a :: rest)) := by
  obtain ⟨C0, T, N, ref, h1, h2, h3, h4, h5⟩ := hL
  obtain ⟨C1, T1, N1, ty0, g1, g2, g3, g4, g5, g6, -⟩ := hT
  cases h1.symm.trans g1
  have hap := va_apart (own := own) C.2.2.2.2 h3 ty0 g6 g5 hK h1
  obtain ⟨r, r1, cell, q1, q2, q3, q4⟩ := hR _ _ hP
  cases r1.symm.trans h1
  obtain ⟨hS, hfc, kC, hkC, hkind⟩ := hK.1 ci _ h1
  obtain ⟨cf, kf, fi, f, hi, hsl⟩ := hS k h2
  have hlay := C.2.2.2.2 _ (h3 _ (u_in_lay h2))
  unfold u_lay at hlay
  rw [if_neg (by rw [g3]; decide)] at hlay
  have hst := (u_facts hfc hkC (u_lays C.2.2.2.2 h3 h2) hi).1
  have h6 := u_store hfc hkC hkind hlay hi g4 hn hfit
  have hsame := w_same C h5 (w_found C h4)
  refine W.putK C.1 C.2.1 (f := f) ⟨C.2.2.2.1, C.2.2.2.2 _ h4, ⟨_, _, _, hsame _ hi⟩, hst⟩ (by rw [q2]; exact h6) q1 q3 (by rw [hsl]; exact k2_hasslot (q4 k h2)) rfl rfl hdg fun H' e1 e2 e3 => ?_
  rw [hsl] at e1 ⊢
  exact kk H' _ e2 (hR.put (w_at h1 q2 q3 q4 hap h2 hl e1) e3 hP') (hS0.put e2 e3 hA)
theorem w_putN {ty : FieldType} (C : CallFix p m c cc nL s args lw_all own) (hN : xNK s) (hK : va_K D xcl tys s) (hR : wR D xcl P H) (hS0 : va_S A H0 H locs) (hP : P a (.inr (ci, fs))) (hL : wLkN own idx ci k) (hT : wPt ci k ty false own) (hn : narrow ty v = v) (hfit : fits ty v = true) (hl : k < fs.length) (hA : A a) (hP' : ∀ b f, P' b f → (b = a ∧ f = .inr (ci, fs.set k v)) ∨ (b ≠ a ∧ P b f)) (hdg : decode cc pc = .ok (.putfield idx, 3))
    (kk : ∀ (H1 : Heap) (locs1 : List Loc), H1.size = H.size → wR D xcl P' H1 → va_S A H0 H1 locs1 → W p l e R s m args below meth c H1 locs1 cells slots Q (F0 m (pc + 3) ls rest)) : W p l e R s m args below meth c H locs cells slots Q (F0 m pc ls (v :: .ref a :: rest)) := by
  obtain ⟨C0, T, N, host, h1, h2, h3, h4⟩ := hL
  obtain ⟨C1, T1, N1, ty0, g1, g2, g3, g4, g5, g6, -⟩ := hT
  cases h1.symm.trans g1
  have hap := va_apart (own := own) C.2.2.2.2 h3 ty0 g6 g5 hK h1
  obtain ⟨r, r1, cell, q1, q2, q3, q4⟩ := hR _ _ hP
  cases r1.symm.trans h1
  obtain ⟨hS, hfc, kC, hkC, hkind⟩ := hK.1 ci _ h1
  obtain ⟨cf, kf, fi, f, hi, hsl⟩ := hS k h2
  have hlay := C.2.2.2.2 _ (h3 _ (u_in_lay h2))
  unfold u_lay at hlay
  rw [if_neg (by rw [g3]; decide)] at hlay
  have hst := (u_facts hfc hkC (u_lays C.2.2.2.2 h3 h2) hi).1
  have h6 := u_store hfc hkC hkind hlay hi g4 hn hfit
  refine va_WputK C.1 C.2.1 (f := f) C.2.2.2.1 ((hN _ h4 rfl).use rfl) hi hst (by rw [q2]; exact h6) q1 q3 (by rw [hsl]; exact k2_hasslot (q4 k h2)) rfl rfl hdg fun H' e1 e2 e3 => ?_
  rw [hsl] at e1 ⊢
  exact kk H' _ e2 (hR.put (w_at h1 q2 q3 q4 hap h2 hl e1) e3 hP') (hS0.put e2 e3 hA)
theorem w_putF {ty : FieldType} (C : CallFix p m c cc nL s args lw_all own) (hin2 : meth.name = "<init>") (hK : va_K D xcl tys s) (hR : wR D xcl P H) (hS0 : va_S A H0 H locs) (hP : P a (.inr (ci, fs))) (hL : wLk own idx ci k) (hT : wPt ci k ty true own) (hn : narrow ty v = v) (hfit : fits ty v = true) (hl : k < fs.length) (hA : A a) (hP' : ∀ b f, P' b f → (b = a ∧ f = .inr (ci, fs.set k v)) ∨ (b ≠ a ∧ P b f)) (hdg : decode cc pc = .ok (.putfield idx, 3))
    (kk : ∀ (H1 : Heap) (locs1 : List Loc), H1.size = H.size → wR D xcl P' H1 → va_S A H0 H1 locs1 → W p l e R s m args below meth c H1 locs1 cells slots Q (F0 m (pc + 3) ls rest)) : W p l e R s m args below meth c H locs cells slots Q (F0 m pc ls (v :: .ref a :: rest)) := by
  obtain ⟨C0, T, N, ref, h1, h2, h3, h4, h5⟩ := hL
  obtain ⟨C1, T1, N1, ty0, g1, g2, g3, g4, g5, g6, g7⟩ := hT
  cases h1.symm.trans g1
  have hap := va_apart (own := own) C.2.2.2.2 h3 ty0 g6 g5 hK h1
  obtain ⟨r, r1, cell, q1, q2, q3, q4⟩ := hR _ _ hP
  cases r1.symm.trans h1
  obtain ⟨hS, hfc, kC, hkC, hkind⟩ := hK.1 ci _ h1
  obtain ⟨cf, kf, fi, f, hi, hsl⟩ := hS k h2
  have hlay := C.2.2.2.2 _ (h3 _ (u_in_lay h2))
  unfold u_lay at hlay
  rw [if_pos g3] at hlay
  have hst := (u_facts hfc hkC (u_lays C.2.2.2.2 h3 h2) hi).1
  have hcf : m.cls = cf := by
    obtain ⟨_, _, c', _, _, _, -, -, hf', -, -, -, hown2, -⟩ := Cond.laysFinal_spec hlay
    have e1 : c' = cf := by have := hi.symm.trans hf'; simp at this; exact this.1.symm
    rw [g7 rfl] at hown2
    rw [← e1]; exact Option.some.inj (C.2.2.2.1.symm.trans hown2)
  have h6 := u_fits hfc hkC hkind (Or.inr hlay) hi g4 hn hfit
  have hsame := w_same C h5 (w_found C h4)
  refine W.putFinK C.1 C.2.1 C.2.2.2.1 (C.2.2.2.2 _ h4) (hsame _ hi) hst hcf hin2 (by rw [q2]; exact h6) q1 q3 (by rw [hsl]; exact k2_hasslot (q4 k h2)) rfl rfl hdg fun H' e1 e2 e3 => ?_
  rw [hsl] at e1 ⊢
  exact kk H' _ e2 (hR.put (w_at h1 q2 q3 q4 hap h2 hl e1) e3 hP') (hS0.put e2 e3 hA)
end WROWS
