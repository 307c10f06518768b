/-! the count of cells and places; cells that are made; ends; calls -/
def XN (cells slots n0 s0 nf sf : Nat) (σ : xS) : Prop := cells + n0 = xnx σ ∧ slots + s0 = xns σ ∧ xnx σ ≤ nf ∧ xns σ ≤ sf
/-- nothing is made -/
def rl0 (σ σ' : xS) : Prop := xnx σ' = xnx σ ∧ xns σ' = xns σ
/-- nothing goes -/
def rl1 (σ σ' : xS) : Prop := xnx σ ≤ xnx σ' ∧ xns σ ≤ xns σ'
theorem rl0.rf (σ : xS) : rl0 σ σ := ⟨rfl, rfl⟩
theorem rl1.rf (σ : xS) : rl1 σ σ := ⟨Nat.le_refl _, Nat.le_refl _⟩
theorem rl0.tr {a b c : xS} (h : rl0 a b) (k : rl0 b c) : rl0 a c := ⟨k.1.trans h.1, k.2.trans h.2⟩
theorem rl1.tr {a b c : xS} (h : rl1 a b) (k : rl1 b c) : rl1 a c := ⟨Nat.le_trans h.1 k.1, Nat.le_trans h.2 k.2⟩
theorem rl0.le {a b : xS} (h : rl0 a b) : rl1 a b := ⟨by rw [h.1]; exact Nat.le_refl _, by rw [h.2]; exact Nat.le_refl _⟩
theorem rl0.tr1 {a b c : xS} (h : rl0 a b) (k : rl1 b c) : rl1 a c := h.le.tr k
theorem XN.to {cells slots n0 s0 nf sf : Nat} {σ σ' : xS} (h : XN cells slots n0 s0 nf sf σ) (k : rl0 σ σ') : XN cells slots n0 s0 nf sf σ' := by
  obtain ⟨a, b, c, d⟩ := h
  obtain ⟨x, y⟩ := k
  exact ⟨by rw [x]; exact a, by rw [y]; exact b, by rw [x]; exact c, by rw [y]; exact d⟩
/-- what follows keeps within the end's count -/
def XB (nf sf : Nat) (σ : xS) : Prop := xnx σ ≤ nf ∧ xns σ ≤ sf
theorem XB.back {nf sf : Nat} {σ σ' : xS} (h : XB nf sf σ') (k : rl1 σ σ') : XB nf sf σ := ⟨Nat.le_trans k.1 h.1, Nat.le_trans k.2 h.2⟩
theorem XN.b {cells slots n0 s0 nf sf : Nat} {σ σ' : xS} (h : XN cells slots n0 s0 nf sf σ) (k : rl0 σ σ') : XB nf sf σ' := ⟨by rw [k.1]; exact h.2.2.1, by rw [k.2]; exact h.2.2.2⟩
theorem XN.call {cells slots n0 s0 nf sf : Nat} {σ σ' : xS} (h : XN cells slots n0 s0 nf sf σ) (k : rl1 σ σ') (b : XB nf sf σ') : XN (cells + (xnx σ' - xnx σ)) (slots + (xns σ' - xns σ)) n0 s0 nf sf σ' := by
  obtain ⟨a1, a2, a3, a4⟩ := h
  obtain ⟨k1, k2⟩ := k
  obtain ⟨b1, b2⟩ := b
  refine ⟨?_, ?_, b1, b2⟩ <;> omega
theorem r0_pI {σ σ' : xS} {k : Nat} {v : Int32} (h : xpI σ k v = some σ') : rl0 σ σ' := by obtain rfl := Option.some.inj h; exact ⟨rfl, rfl⟩
theorem r0_pN {σ σ' : xS} {j : Fin 3} {k : Nat} {v : Int32} (h : xpN σ j k v = some σ') : rl0 σ σ' := by obtain rfl := Option.some.inj h; exact ⟨rfl, rfl⟩
theorem r0_pT {σ σ' : xS} {r : Option Nat} (h : xpT σ r = some σ') : rl0 σ σ' := by obtain rfl := Option.some.inj h; exact ⟨rfl, rfl⟩
theorem r0_p {σ σ' : xS} {cs : List (Nat × Nat)} {a : Nat} {v : Value} (h : xp σ cs a v = some σ') : rl0 σ σ' := by
  obtain ⟨ci, k, fs, h1, h2, h3, rfl⟩ := xp_some h
  exact ⟨rfl, rfl⟩
theorem xpZ_p {σ σ' : xS} {cs : List (Nat × Nat)} {a : Nat} {v : Int32} (h : xpZ σ cs a v = some σ') : (v = 0 ∨ v = 1) ∧ xp σ cs a (.int v) = some σ' := by
  unfold xpZ at h
  split at h
  · next q => exact ⟨q, h⟩
  · cases h
theorem r0_pZ {σ σ' : xS} {cs : List (Nat × Nat)} {a : Nat} {v : Int32} (h : xpZ σ cs a v = some σ') : rl0 σ σ' := r0_p (xpZ_p h).2
theorem r0_sa {t : Nat} {σ σ' : xS} {k : Nat} {i v : Int32} (h : xsa t σ k i v = some σ') : rl0 σ σ' := by
  unfold xsa at h
  split at h
  · obtain rfl := Option.some.inj h; exact ⟨rfl, rfl⟩
  · cases h
theorem r0_sr {σ σ' : xS} {k : Nat} {i : Int32} {r : Option Nat} (h : xsr σ k i r = some σ') : rl0 σ σ' := by
  unfold xsr at h
  split at h
  · obtain rfl := Option.some.inj h; exact ⟨rfl, rfl⟩
  · cases h
theorem r0_ds {t : Nat} {σ σ' : xS} {a : Nat} {i v : Int32} (h : xds t σ a i v = some σ') : rl0 σ σ' := by
  refine k_bind h (fun z h1 h => ?_)
  split at h
  · split at h
    · obtain rfl := Option.some.inj h; exact ⟨rfl, rfl⟩
    · cases h
  · cases h
theorem r0_dsJ {σ σ' : xS} {a : Nat} {i : Int32} {v : Int64} (h : xdsJ σ a i v = some σ') : rl0 σ σ' := by
  refine k_bind h (fun z h1 h => ?_)
  split at h
  · split at h
    · obtain rfl := Option.some.inj h; exact ⟨rfl, rfl⟩
    · cases h
  · cases h
theorem r0_dsR {σ σ' : xS} {a : Nat} {i : Int32} {r : Option Nat} (h : xdsR σ a i r = some σ') : rl0 σ σ' := by
  refine k_bind h (fun z h1 h => ?_)
  split at h
  · split at h
    · obtain rfl := Option.some.inj h; exact ⟨rfl, rfl⟩
    · cases h
  · cases h
/-- a loop's state and its end, in a relation that steps keep -/
theorem lpw_rel {α β : Type} (st : α → Option (α ⊕ β)) (F : α → xS) (G : β → xS) (r : xS → xS → Prop) (hr : ∀ {a b c}, r a b → r b c → r a c) (h : ∀ a x, st a = some x → r (F a) (Sum.elim F G x)) : ∀ {a b}, lpw st a = some b → r (F a) (G b) := by
  have key : ∀ n a b, lpn st n a = some b → r (F a) (G b) := by
    intro n
    induction n with
    | zero => intro a b h; cases h
    | succ n ih =>
      intro a b h2
      rw [lpn_succ] at h2
      refine k_bind h2 (fun x h3 h4 => ?_)
      have h5 := h a x h3
      cases x with
      | inl a' => exact hr h5 (ih a' b h4)
      | inr b' =>
        obtain rfl := Option.some.inj h4
        exact h5
  intro a b h2
  obtain ⟨n, h3⟩ := lpw_some.mp h2
  exact key n a b h3
/-- like lpw_go, and what is left of the loop is known at every step -/
theorem lpw_go2 {α β : Type} (st : α → Option (α ⊕ β)) (P : α → Prop) (E : β → Prop) (body : ∀ a x b, st a = some x → Sum.elim (lpw st) some x = some b → E b → (∀ a', x = .inl a' → P a') → (∀ b', x = .inr b' → E b') → P a) : ∀ a b, lpw st a = some b → E b → P a := by
  have key : ∀ n a b, lpn st n a = some b → E b → P a := by
    intro n
    induction n with
    | zero => intro a b h; cases h
    | succ n ih =>
      intro a b h hE
      rw [lpn_succ] at h
      refine k_bind h (fun x h1 h2 => ?_)
      refine body a x b h1 ?_ hE (fun a' e => ?_) (fun b' e => ?_)
      · cases x with
        | inl a' => exact lpw_some.mpr ⟨n, h2⟩
        | inr b' => exact h2
      · subst e
        exact ih a' b h2 hE
      · subst e
        obtain rfl := Option.some.inj h2
        exact hE
  intro a b h hE
  obtain ⟨n, h⟩ := lpw_some.mp h
  exact key n a b h hE
section XCALL
variable {p : Program} {l : Launch} {e : Env} {R : Room} {s : State} {m : MethodId} {args : Array Value} {below : List Frame} {meth : Method} {c : Code} {H : Heap} {locs : List Loc} {cells slots : Nat} {Q : State → Prop}
variable {cc : ByteArray} {pc nL : Nat} {ls : Array Slot} {rest : List Value} {rt : Option FieldType} {own : String} {E : xG} {σ σ' : xS} {a idx n0 s0 nf sf F L : Nat} {H0 : Heap}
/-- a cell is made -/
theorem xR.mk {H1 : Heap} {z : xE} {N : Nat} (hE : xOK E) (hR : xR E σ H) (hz : H1.size = H.size + 1) (hc : va_at E.1 xcl (xnx σ, xto E z) H1) (oq : ∀ q, q < H.size → H1[q]? = H[q]?) : xR E (xuM σ z N) H1 := by
  have hlt : ∀ b f, xW E σ b f → b < xnx σ := fun b f hb => by rw [← hR.2.2]; exact (hR.1 b f hb).lt
  have hst : ¬ xst E (xnx σ) := by
    rintro (h | ⟨j, h⟩ | ⟨i, hi, h⟩)
    · exact absurd (hlt _ _ (Or.inl ⟨h, rfl⟩)) (Nat.lt_irrefl _)
    · exact absurd (hlt _ _ (Or.inr (Or.inl ⟨j, h, rfl⟩))) (Nat.lt_irrefl _)
    · exact absurd (hlt _ _ (Or.inr (Or.inr (Or.inl ⟨i, hi, h, rfl⟩)))) (Nat.lt_irrefl _)
  obtain ⟨b1, b2, b3, b4, b5, b6⟩ := hR.2.1
  have hD : ∀ b, xD (xuM σ z N) b = if b = xnx σ then some z else xD σ b := fun _ => rfl
  refine ⟨fun b f hb => ?_, ⟨fun b y hb => ?_, b2, Nat.le_succ_of_le b3, fun b hb => Nat.lt_succ_of_lt (b4 b hb), fun b y hb => ?_, b6⟩, by rw [hz, hR.2.2]; rfl⟩
  · rcases hb with h | h | h | ⟨w, h1, h2, h3⟩ | h
    · exact (hR.1 b f (Or.inl h)).kept (oq b (by rw [hR.2.2]; exact hlt _ _ (Or.inl h)))
    · exact (hR.1 b f (Or.inr (Or.inl h))).kept (oq b (by rw [hR.2.2]; exact hlt _ _ (Or.inr (Or.inl h))))
    · exact (hR.1 b f (Or.inr (Or.inr (Or.inl h)))).kept (oq b (by rw [hR.2.2]; exact hlt _ _ (Or.inr (Or.inr (Or.inl h)))))
    · rw [hD] at h1
      by_cases eb : b = xnx σ
      · rw [if_pos eb] at h1
        obtain rfl := Option.some.inj h1
        subst eb
        rw [h3]
        exact hc
      · rw [if_neg eb] at h1
        have hw : xW E σ b f := Or.inr (Or.inr (Or.inr (Or.inl ⟨w, h1, h2, h3⟩)))
        exact (hR.1 b f hw).kept (oq b (by rw [hR.2.2]; exact hlt _ _ hw))
    · exact (hR.1 b f (Or.inr (Or.inr (Or.inr (Or.inr h))))).kept (oq b (by rw [hR.2.2]; exact hlt _ _ (Or.inr (Or.inr (Or.inr (Or.inr h))))))
  · rw [hD] at hb
    by_cases eb : b = xnx σ
    · subst eb
      exact ⟨⟨b3, fun q => absurd (b4 _ q) (Nat.lt_irrefl _)⟩, hst⟩
    · rw [if_neg eb] at hb
      exact b1 b y hb
  · rw [hD] at hb
    show b < xnx σ + 1
    by_cases eb : b = xnx σ
    · omega
    · rw [if_neg eb] at hb
      exact Nat.lt_succ_of_lt (b5 b y hb)
theorem XN.mk {z : xE} {N : Nat} (h : XN cells slots n0 s0 nf sf σ) (b : XB nf sf (xuM σ z N)) : XN (cells + 1) (slots + N) n0 s0 nf sf (xuM σ z N) := by
  obtain ⟨a1, a2, a3, a4⟩ := h
  refine ⟨?_, ?_, b.1, b.2⟩
  · show cells + 1 + n0 = xnx σ + 1
    omega
  · show slots + N + s0 = xns σ + N
    omega
theorem XN.room {z : xE} {N : Nat} (h : XN cells slots n0 s0 nf sf σ) (b : XB nf sf (xuM σ z N)) : cells + 1 ≤ nf - n0 ∧ slots + N ≤ sf - s0 := by
  obtain ⟨a1, a2, a3, a4⟩ := h
  have h1 : xnx σ + 1 ≤ nf := b.1
  have h2 : xns σ + N ≤ sf := b.2
  constructor <;> omega
theorem x_new {ci N : Nat} {C : String} {T : u_T} {fs : List Value} {ty : Nat → FieldType} (S : xSt E own p m c cc nL s args meth rt) (hR : xR E σ H) (hS : va_S (xAA E) H0 H locs) (hn : XN cells slots n0 s0 nf sf σ) (hb : XB nf sf (xuM σ (.inr (ci, fs)) N)) (hc : xcl[ci]? = some (C, T, N)) (hin : ∀ w ∈ u_ws C T N, w ∈ lw_all) (hty : ∀ k, k < N → parseFieldDescriptor (T k).2.2.1 = some (ty k)) (hfs : ∀ j, j < N → defaultValue (ty j) = vp_V fs j) (hcl : Cond.classLink own idx C ∈ lw_all) (hinst : Cond.instantiable C N ∈ lw_all) (hini : Cond.initialized C ∈ lw_all) (hbs : H0.size ≤ H.size) (hdg : decode cc pc = .ok (.new idx, 3))
    (kk : ∀ (H1 : Heap), xR E (xuM σ (.inr (ci, fs)) N) H1 → va_S (xAA E) H0 H1 locs → XN (cells + 1) (slots + N) n0 s0 nf sf (xuM σ (.inr (ci, fs)) N) → W p l e (xRm F L (nf - n0) (sf - s0)) s m args below meth c H1 locs (cells + 1) (slots + N) Q (F0 m (pc + 3) ls (.ref (xnx σ) :: rest))) : W p l e (xRm F L (nf - n0) (sf - s0)) s m args below meth c H locs cells slots Q (F0 m pc ls rest) := by
  have hKn := S.2.1.1 ci _ hc
  have hts := S.1.1.2.2.2.2
  refine W.newcK S.1.1.1 S.1.1.2.1 S.1.1.2.2.2.1 (hts _ hcl) (hts _ hinst) (hts _ hini) rfl hdg (hn.room hb).1 (hn.room hb).2 hKn.2.1 hR.2.2 fun H1 kC hkC e1 z1 o1 => ?_
  rw [← hR.2.2] at z1 o1
  exact kk H1 (hR.mk S.2.2.2 z1 ⟨_, hc, (u_born ty hts hin hKn hkC e1 hty).to hfs⟩ o1) ⟨Nat.le_trans hS.1 (by omega), fun x h1 h2 => (o1 x (Nat.lt_of_lt_of_le h1 hS.1)).trans (hS.2.1 x h1 h2), hS.2.2⟩ (hn.mk hb)
def xdf (t : Nat) : (Nat → Int32) ⊕ (Nat → Int64) ⊕ (Nat → UInt32) ⊕ (Nat → UInt64) ⊕ (Nat → Option Nat) := if t = 4 then .inr (.inl (fun _ => 0)) else if t < 6 then .inl (fun _ => 0) else .inr (.inr (.inr (.inr (fun _ => none))))
/-- an array of n places is made -/
def xna (σ : xS) (t : Nat) (n : Int32) : Option (Nat × xS) := if n < 0 ∨ 100000 < n.toNatClampNeg then none else some (xnx σ, xuM σ (.inl (t, n.toNatClampNeg, xdf t)) n.toNatClampNeg)
theorem r1_na {t : Nat} {n : Int32} {q : Nat × xS} (h : xna σ t n = some q) : rl1 σ q.2 := by
  obtain ⟨-, h⟩ := o_g h
  obtain rfl := Option.some.inj h
  exact ⟨Nat.le_succ _, Nat.le_add_right _ _⟩
theorem x_newa {t : Nat} {n : Int32} {q : Nat × xS} {atype : ArrayType} (S : xSt E own p m c cc nL s args meth rt) (hR : xR E σ H) (hS : va_S (xAA E) H0 H locs) (hn : XN cells slots n0 s0 nf sf σ) (h : xna σ t n = some q) (hb : XB nf sf q.2) (hat : newarray.typeOf atype = xty t) (ht : t < 6) (h0 : 1 ≤ t) (harr : Cond.arrayClass (newarray.typeOf atype) ∈ lw_all) (hdg : decode cc pc = .ok (.newarray atype, 2))
    (kk : ∀ (H1 : Heap) (cells slots : Nat), xR E q.2 H1 → va_S (xAA E) H0 H1 locs → XN cells slots n0 s0 nf sf q.2 → W p l e (xRm F L (nf - n0) (sf - s0)) s m args below meth c H1 locs cells slots Q (F0 m (pc + 2) ls (.ref q.1 :: rest))) : W p l e (xRm F L (nf - n0) (sf - s0)) s m args below meth c H locs cells slots Q (F0 m pc ls (.int n :: rest)) := by
  obtain ⟨hc, h⟩ := o_g h
  obtain rfl := Option.some.inj h
  have hts := S.1.1.2.2.2.2
  have hbt : componentBytes (newarray.typeOf atype) ≤ 8 := by cases atype <;> decide
  have hby : n.toNatClampNeg * componentBytes (newarray.typeOf atype) ≤ 536870912 := by
    have h1 : n.toNatClampNeg ≤ 100000 := by omega
    calc n.toNatClampNeg * componentBytes (newarray.typeOf atype) ≤ 100000 * 8 := Nat.mul_le_mul h1 hbt
      _ ≤ 536870912 := by decide
  refine va_newaK S.1.1.1 S.1.1.2.1 (hts _ harr) rfl hdg rfl (fun q => hc (Or.inl q)) rfl hby (hn.room hb).1 (hn.room hb).2 hR.2.2 fun H1 cA e1 z1 o1 hAr hNm => ?_
  rw [← hR.2.2] at z1 o1
  have hcA : cA = xtc E t := by
    have h2 := (wtys S.2.1 (t := t) (by omega)).2
    rw [hat] at hNm
    have h3 : s.vm.findClass ("[" ++ (xty t).toString) = some (xtc E t) := by
      unfold va_RA at h2
      split at h2
      · next C hC => obtain ⟨_, _, _, _, _, h5⟩ := h2; rw [hC]; exact h5
      · exact h2
    exact Option.some.inj (hNm.symm.trans h3)
  refine kk H1 _ _ (hR.mk S.2.2.2 z1 ?_ o1) ⟨Nat.le_trans hS.1 (by omega), fun x h1 h2 => (o1 x (Nat.lt_of_lt_of_le h1 hS.1)).trans (hS.2.1 x h1 h2), hS.2.2⟩ (hn.mk hb)
  show H1[xnx σ]? = some (vp_cell _ _)
  rw [e1, hcA, hat]
  have : t = 1 ∨ t = 2 ∨ t = 3 ∨ t = 4 ∨ t = 5 := by omega
  rcases this with rfl | rfl | rfl | rfl | rfl <;> rfl
theorem x_newr {t : Nat} {n : Int32} {q : Nat × xS} {C : String} (S : xSt E own p m c cc nL s args meth rt) (hR : xR E σ H) (hS : va_S (xAA E) H0 H locs) (hn : XN cells slots n0 s0 nf sf σ) (h : xna σ t n = some q) (hb : XB nf sf q.2) (hat : xty t = .object C) (ht : t < 16) (h6 : 6 ≤ t) (hcl : Cond.classLink own idx C ∈ lw_all) (hov : va_AO C s) (hdg : decode cc pc = .ok (.anewarray idx, 3))
    (kk : ∀ (H1 : Heap) (cells slots : Nat), xR E q.2 H1 → va_S (xAA E) H0 H1 locs → XN cells slots n0 s0 nf sf q.2 → W p l e (xRm F L (nf - n0) (sf - s0)) s m args below meth c H1 locs cells slots Q (F0 m (pc + 3) ls (.ref q.1 :: rest))) : W p l e (xRm F L (nf - n0) (sf - s0)) s m args below meth c H locs cells slots Q (F0 m pc ls (.int n :: rest)) := by
  obtain ⟨hc, h⟩ := o_g h
  obtain rfl := Option.some.inj h
  have hts := S.1.1.2.2.2.2
  have hby : n.toNatClampNeg * 4 ≤ 536870912 := by omega
  refine W.anew S.1.1.1 S.1.1.2.1 S.1.1.2.2.2.1 (hts _ hcl) (va_AO.use hov) rfl hdg rfl (fun q => hc (Or.inl q)) hby (hn.room hb).1 (hn.room hb).2 fun cA kA comp f1 f2 f3 f4 => ?_
  generalize hH1 : H.push ({ cls := cA, slots := Array.replicate n.toNatClampNeg .null, vm := .none } : Cell) = H1
  have z1 : H1.size = H.size + 1 := by rw [← hH1, Array.size_push]
  have e1 : H1[H.size]? = some (arrV cA n.toNatClampNeg (fun _ => .null)) := by rw [← hH1, Array.getElem?_push_size, ← arrV_new]
  have o1 : ∀ q : Nat, q < H.size → H1[q]? = H[q]? := fun q hq => by rw [← hH1, Array.getElem?_push, if_neg (Nat.ne_of_lt hq)]
  have hcA : cA = xtc E t := by
    have h2 := (wtys S.2.1 ht).2
    rw [hat] at h2
    obtain ⟨_, _, _, _, _, h5⟩ := h2
    exact Option.some.inj (f1.symm.trans h5)
  rw [hR.2.2]
  refine kk H1 _ _ (hR.mk S.2.2.2 z1 ?_ o1) ⟨Nat.le_trans hS.1 (by omega), fun x h1 h2 => (o1 x (Nat.lt_of_lt_of_le h1 hS.1)).trans (hS.2.1 x h1 h2), hS.2.2⟩ (hn.mk hb)
  show H1[xnx σ]? = some (vp_cell _ _)
  rw [← hR.2.2, e1, hcA, show xdf t = .inr (.inr (.inr (.inr (fun _ => none)))) by unfold xdf; rw [if_neg (by omega), if_neg (by omega)]]
  rfl
/-- ends -/
theorem x_iret {v w : Int32} {ty : FieldType} {σ0 : xS} (S : xSt E own p m c cc nL s args meth (some ty)) (hR : xR E σ H) (hS : va_S (xAA E) s.heap H locs) (hn0 : XN cells slots (xnx σ0) (xns σ0) nf sf σ) (hn : narrow ty (.int v) = .int w) (hdg : decode cc pc = .ok (.ireturn, 1)) : W p l e R s m args below meth c H locs cells slots (MQ below (xQ E (some (.int w)) σ) args s (xnx σ - xnx σ0) (xns σ - xns σ0) (xAA E)) (F0 m pc ls [.int v]) := by
  obtain ⟨⟨⟨hx, hb, -⟩, hr, hlocks⟩, hK⟩ := S
  rw [show xnx σ - xnx σ0 = cells by have := hn0.1; omega, show xns σ - xns σ0 = slots by have := hn0.2.1; omega]
  intro T hT X
  obtain ⟨fs, hret, hrun, hended, hW, hframe⟩ := X.leave (v := some (.int w)) (fun h => by rw [hr] at h; cases h)
  have hmeth' : T.vm.method? m = some meth := X.method'
  refine ⟨T.setFrames fs, ?_, .returned (some (.int w)), hrun, hended, ⟨⟨rfl, by rw [show (T.setFrames fs).heap = H from hT]; exact hR⟩, hS.F hT⟩, locs, ⟨⟨_, rfl⟩, hW, hframe⟩, hS.2.2⟩
  jvm_step X.here [X.here.top, hx, hb, hdg, hmeth', hr, hn]
  (try refine ⟨rfl, ?_⟩); (try refine ⟨rfl, ?_⟩)
  first | (intro acts; rw [hret _ acts rfl rfl rfl]) | rw [hret _ _ rfl rfl rfl]
  exact Steps.refl _
theorem x_lret {v : Int64} {σ0 : xS} (S : xSt E own p m c cc nL s args meth (some .long)) (hR : xR E σ H) (hS : va_S (xAA E) s.heap H locs) (hn0 : XN cells slots (xnx σ0) (xns σ0) nf sf σ) (hdg : decode cc pc = .ok (.lreturn, 1)) : W p l e R s m args below meth c H locs cells slots (MQ below (xQ E (some (.long v)) σ) args s (xnx σ - xnx σ0) (xns σ - xns σ0) (xAA E)) (F0 m pc ls [.long v]) := by
  obtain ⟨⟨⟨hx, hb, -⟩, hr, hlocks⟩, hK⟩ := S
  rw [show xnx σ - xnx σ0 = cells by have := hn0.1; omega, show xns σ - xns σ0 = slots by have := hn0.2.1; omega]
  exact W.lret hx hb hr (fun t ht _ => ⟨⟨rfl, by rw [ht]; exact hR⟩, hS.F ht⟩) hS.2.2 hdg hlocks
theorem x_vret {σ0 : xS} (S : xSt E own p m c cc nL s args meth none) (hR : xR E σ H) (hS : va_S (xAA E) s.heap H locs) (hn0 : XN cells slots (xnx σ0) (xns σ0) nf sf σ) (hdg : decode cc pc = .ok (.return_, 1)) : W p l e R s m args below meth c H locs cells slots (MQ below (xQ E none σ) args s (xnx σ - xnx σ0) (xns σ - xns σ0) (xAA E)) (F0 m pc ls []) := by
  obtain ⟨⟨⟨hx, hb, -⟩, hr, hlocks⟩, hK⟩ := S
  rw [show xnx σ - xnx σ0 = cells by have := hn0.1; omega, show xns σ - xns σ0 = slots by have := hn0.2.1; omega]
  exact W.vret hx hb hr (fun t ht _ => ⟨⟨rfl, by rw [ht]; exact hR⟩, hS.F ht⟩) hS.2.2 hdg hlocks
theorem x_aret {r : Option Nat} {ty : FieldType} {σ0 : xS} (S : xSt E own p m c cc nL s args meth (some ty)) (hty : (∃ n, ty = .object n) ∨ ∃ t, ty = .array t) (hR : xR E σ H) (hS : va_S (xAA E) s.heap H locs) (hn0 : XN cells slots (xnx σ0) (xns σ0) nf sf σ) (hdg : decode cc pc = .ok (.areturn, 1)) : W p l e R s m args below meth c H locs cells slots (MQ below (xQ E (some (va_rf r)) σ) args s (xnx σ - xnx σ0) (xns σ - xns σ0) (xAA E)) (F0 m pc ls [va_rf r]) := by
  obtain ⟨⟨⟨hx, hb, -⟩, hr, hlocks⟩, hK⟩ := S
  rw [show xnx σ - xnx σ0 = cells by have := hn0.1; omega, show xns σ - xns σ0 = slots by have := hn0.2.1; omega]
  exact W.aret hx hb hr hty (by cases r; exact Or.inl rfl; exact Or.inr ⟨_, rfl⟩) (fun t ht _ => ⟨⟨rfl, by rw [ht]; exact hR⟩, hS.F ht⟩) hS.2.2 hdg hlocks
/-- behind a call -/
theorem x_after {mc ms : Nat} {rv : Option Value} {st0 : List Value} {a0 : Array Value} (hr : va_Run p l e R s m args below meth c H locs cells slots mc ms (F0 m pc ls st0) rest (xQ E rv σ' a0) (xAA E)) (hS : va_S (xAA E) H0 H locs)
    (kk : ∀ (H1 : Heap) (locs1 : List Loc), xR E σ' H1 → va_S (xAA E) H0 H1 locs1 → W p l e R s m args below meth c H1 locs1 (cells + mc) (slots + ms) Q (F0 m (pc + 3) ls (rv.toList ++ rest))) : W p l e R s m args below meth c H locs cells slots Q (F0 m pc ls st0) := by
  intro T hT X
  obtain ⟨v, st₀, t, T', L, h0, X', hL, e1, e2, ⟨⟨hv, hh⟩, hz, hk⟩, st⟩ := hr T hT X
  cases hv
  rw [h0] at hz hk
  obtain ⟨t2, a1, b1⟩ := kk T'.heap (locs ++ L) (by rw [e1]; exact hh) ⟨Nat.le_trans hS.1 (by rw [e1]; exact hz), fun q h1 h2 => by rw [e1, hk q (Nat.lt_of_lt_of_le h1 hS.1) h2]; exact hS.2.1 q h1 h2, fun q hq => by
      rcases List.mem_append.mp hq with h | h
      · exact hS.2.2 q h
      · exact hL q h⟩ T' rfl X'
  exact ⟨t2, st t2 a1, b1⟩
theorem XN.fit (h : XN cells slots n0 s0 nf sf σ) (k : rl1 σ σ') (b : XB nf sf σ') : cells + (xnx σ' - xnx σ) ≤ (xRm F L (nf - n0) (sf - s0)).cells ∧ slots + (xns σ' - xns σ) ≤ (xRm F L (nf - n0) (sf - s0)).slots := by
  obtain ⟨a1, a2, a3, a4⟩ := h
  obtain ⟨k1, k2⟩ := k
  obtain ⟨b1, b2⟩ := b
  constructor
  · show cells + (xnx σ' - xnx σ) ≤ nf - n0
    omega
  · show slots + (xns σ' - xns σ) ≤ sf - s0
    omega
theorem xPc {av : List Value} (hK : xK E s) (hR : xR E σ H) : FrameBlind (va_Pc av (fun U => xR E σ U.heap ∧ xK E U)) ∧ ∀ U : State, U.heap = H → s.WarmedH U.vm → va_Pc av (fun U => xR E σ U.heap ∧ xK E U) av.toArray U :=
  ⟨fun a U g mk q => ⟨q.1, q.2.1, xK.same (s := U) (U := U.calling g mk a) rfl q.2.2⟩, fun U hU hW => ⟨rfl, by rw [hU]; exact hR, hK.warm hW⟩⟩
/-- the receiver's class -/
theorem xrc {ci : Nat} {q : vw_C} {fs : List Value} (hK : xK E s) (hR : xR E σ H) (hc : xcl[ci]? = some q) (hP : xW E σ a (.inr (ci, fs))) : ∃ cell : Cell, H[a]? = some cell ∧ cell.vm.isStatics = false ∧ s.vm.findClass q.1 = some cell.cls := by
  obtain ⟨r, h1, cell, q1, q2, q3, -⟩ := hR.1 _ _ hP
  cases h1.symm.trans hc
  exact ⟨cell, q1, by rw [q3]; rfl, by rw [q2]; exact (hK.1.1 _ _ hc).2.1⟩
theorem x_call {C : String} {y : MethodName} {cy : ByteArray} {nLy n Fy Ly : Nat} {rty : Option FieldType} {As st : List Value} {rv : Option Value} (S : xSt E own p m c cc nL s args meth rt) (hR : xR E σ H) (hS : va_S (xAA E) H0 H locs) (hn : XN cells slots n0 s0 nf sf σ) (hM : xMet l y cy nLy rty Fy Ly E (.ref a :: As) σ rv σ') (hg : rl1 σ σ') (hb : XB nf sf σ') (hI : wInfV y cy nLy rty n) (hrc : ∃ cell : Cell, H[a]? = some cell ∧ cell.vm.isStatics = false ∧ s.vm.findClass C = some cell.cls) (hy : y.cls = C) (hlk : Cond.methodLink own idx y ∈ lw_all) (hro1 : Fy + 1 ≤ F ∧ 8 + (nLy + 11) + Ly ≤ L) (hln : As.length = n) (hl : ls.size = nL) (hst : st = As.reverse ++ .ref a :: rest) (hro : (rest.map fun v => v.category).sum ≤ 8) (hdg : decode cc pc = .ok (.invokevirtual idx, 3))
    (kk : ∀ (H1 : Heap) (locs1 : List Loc) (cells slots : Nat), xR E σ' H1 → va_S (xAA E) H0 H1 locs1 → XN cells slots n0 s0 nf sf σ' → W p l e (xRm F L (nf - n0) (sf - s0)) s m args below meth c H1 locs1 cells slots Q (F0 m (pc + 3) ls (rv.toList ++ rest))) : W p l e (xRm F L (nf - n0) (sf - s0)) s m args below meth c H locs cells slots Q (F0 m pc ls st) := by
  subst hst
  obtain ⟨h1, h2, h3, h4, h5⟩ := hI
  obtain ⟨hP1, hP2⟩ := xPc (av := .ref a :: As) S.2 hR
  exact x_after (va_runV (e := e) (meth := meth) (below := below) (H := H) (locs := locs) (cells := cells) (slots := slots) (g := F0 m pc ls (As.reverse ++ .ref a :: rest)) (b := a) (As := As) (rest := rest) (C := C) S.1.1 hM (cwV n S.1.1.2.2.2.2 (lw_V hlk h1 (hy ▸ h2) (hy ▸ h3) h4) rfl rfl rfl ⟨hy, h5⟩ hro1) ⟨hP1, hrc, hP2⟩ rfl hln hl rfl (lv_room hro) hdg (hn.fit hg hb)) hS (fun H1 locs1 g1 g2 => kk H1 locs1 _ _ g1 g2 (hn.call hg hb))
theorem x_callS {y : MethodName} {cy : ByteArray} {nLy n Fy Ly : Nat} {rty : Option FieldType} {As st : List Value} {rv : Option Value} (S : xSt E own p m c cc nL s args meth rt) (hR : xR E σ H) (hS : va_S (xAA E) H0 H locs) (hn : XN cells slots n0 s0 nf sf σ) (hM : xMet l y cy nLy rty Fy Ly E As σ rv σ') (hg : rl1 σ σ') (hb : XB nf sf σ') (hI : wInfS y cy nLy rty n) (hlk : Cond.methodLink own idx y ∈ lw_all) (hro1 : Fy + 1 ≤ F ∧ 8 + (nLy + 11) + Ly ≤ L) (hln : As.length = n) (hl : ls.size = nL) (hst : st = As.reverse ++ rest) (hro : (rest.map fun v => v.category).sum ≤ 8) (hdg : decode cc pc = .ok (.invokestatic idx, 3))
    (kk : ∀ (H1 : Heap) (locs1 : List Loc) (cells slots : Nat), xR E σ' H1 → va_S (xAA E) H0 H1 locs1 → XN cells slots n0 s0 nf sf σ' → W p l e (xRm F L (nf - n0) (sf - s0)) s m args below meth c H1 locs1 cells slots Q (F0 m (pc + 3) ls (rv.toList ++ rest))) : W p l e (xRm F L (nf - n0) (sf - s0)) s m args below meth c H locs cells slots Q (F0 m pc ls st) := by
  subst hst
  obtain ⟨h1, h2, h3, h4⟩ := hI
  obtain ⟨hP1, hP2⟩ := xPc (av := As) S.2 hR
  exact x_after (va_runS (e := e) (meth := meth) (below := below) (H := H) (locs := locs) (cells := cells) (slots := slots) (g := F0 m pc ls (As.reverse ++ rest)) (As := As) (rest := rest) S.1.1 hM (va_cwS n S.1.1.2.2.2.2 (lw_S hlk h1 h2 h3) rfl rfl rfl h4 hro1) ⟨hP1, hP2⟩ rfl hln hl rfl (lv_room hro) hdg (hn.fit hg hb)) hS (fun H1 locs1 g1 g2 => kk H1 locs1 _ _ g1 g2 (hn.call hg hb))
/-- a constructor: what a call of it asks -/
def wInfI (y : MethodName) (cy : ByteArray) (nLy : Nat) (n : Nat) : Prop :=
  Cond.instanceMethod y ∈ lw_all ∧ Cond.initialized y.cls ∈ lw_all ∧ Cond.code y cy nLy none ∈ lw_all ∧ y.name = "<init>" ∧ (y.cls ≠ "java/lang/invoke/MethodHandle" ∧ y.cls ≠ "java/lang/invoke/VarHandle" ∧ (parseMethodDescriptor y.desc).map (fun d => d.parameters.length) = some n)
theorem x_callI {y : MethodName} {cy : ByteArray} {nLy n Fy Ly : Nat} {As st : List Value} (S : xSt E own p m c cc nL s args meth rt) (hR : xR E σ H) (hS : va_S (xAA E) H0 H locs) (hn : XN cells slots n0 s0 nf sf σ) (hM : xMet l y cy nLy none Fy Ly E (.ref a :: As) σ none σ') (hg : rl1 σ σ') (hb : XB nf sf σ') (hI : wInfI y cy nLy n) (hlk : Cond.methodLink own idx y ∈ lw_all) (hro1 : Fy + 1 ≤ F ∧ 8 + (nLy + 11) + Ly ≤ L) (hln : As.length = n) (hl : ls.size = nL) (hst : st = As.reverse ++ .ref a :: rest) (hro : (rest.map fun v => v.category).sum ≤ 8) (hdg : decode cc pc = .ok (.invokespecial idx, 3))
    (kk : ∀ (H1 : Heap) (locs1 : List Loc) (cells slots : Nat), xR E σ' H1 → va_S (xAA E) H0 H1 locs1 → XN cells slots n0 s0 nf sf σ' → W p l e (xRm F L (nf - n0) (sf - s0)) s m args below meth c H1 locs1 cells slots Q (F0 m (pc + 3) ls rest)) : W p l e (xRm F L (nf - n0) (sf - s0)) s m args below meth c H locs cells slots Q (F0 m pc ls st) := by
  subst hst
  obtain ⟨h1, h2, h3, h4, h5⟩ := hI
  have hts := S.1.1.2.2.2.2
  obtain ⟨hP1, hP2⟩ := xPc (av := .ref a :: As) S.2 hR
  exact x_after (va_runI (e := e) (meth := meth) (below := below) (H := H) (locs := locs) (cells := cells) (slots := slots) (g := F0 m pc ls (As.reverse ++ .ref a :: rest)) (b := a) (As := As) (rest := rest) S.1.1 hM (cwI n hts (lw_meth h3) rfl rfl rfl (hts _ h2) (hts _ hlk) (hts _ h1) h4 h5 hro1) ⟨hP1, hP2⟩ rfl hln hl rfl (lv_room hro) hdg (hn.fit hg hb)) hS (fun H1 locs1 g1 g2 => kk H1 locs1 _ _ g1 g2 (hn.call hg hb))
theorem x_callIN {y : MethodName} {cy : ByteArray} {nLy n Fy Ly : Nat} {host : String} {As st : List Value} (S : xSt E own p m c cc nL s args meth rt) (hR : xR E σ H) (hS : va_S (xAA E) H0 H locs) (hn : XN cells slots n0 s0 nf sf σ) (hM : xMet l y cy nLy none Fy Ly E (.ref a :: As) σ none σ') (hg : rl1 σ σ') (hb : XB nf sf σ') (hI : wInfI y cy nLy n) (hlk : Cond.methodLinkNest own idx y host ∈ lw_tbl) (hro1 : Fy + 1 ≤ F ∧ 8 + (nLy + 11) + Ly ≤ L) (hln : As.length = n) (hl : ls.size = nL) (hst : st = As.reverse ++ .ref a :: rest) (hro : (rest.map fun v => v.category).sum ≤ 8) (hdg : decode cc pc = .ok (.invokespecial idx, 3))
    (kk : ∀ (H1 : Heap) (locs1 : List Loc) (cells slots : Nat), xR E σ' H1 → va_S (xAA E) H0 H1 locs1 → XN cells slots n0 s0 nf sf σ' → W p l e (xRm F L (nf - n0) (sf - s0)) s m args below meth c H1 locs1 cells slots Q (F0 m (pc + 3) ls rest)) : W p l e (xRm F L (nf - n0) (sf - s0)) s m args below meth c H locs cells slots Q (F0 m pc ls st) := by
  subst hst
  obtain ⟨h1, h2, h3, h4, h5⟩ := hI
  have hts := S.1.1.2.2.2.2
  obtain ⟨hP1, hP2⟩ := xPc (av := .ref a :: As) S.2 hR
  exact x_after (va_runIN (e := e) (meth := meth) (below := below) (H := H) (locs := locs) (cells := cells) (slots := slots) (g := F0 m pc ls (As.reverse ++ .ref a :: rest)) (b := a) (As := As) (rest := rest) S.1.1 hM ⟨va_cnB n hts (lw_meth h3) rfl rfl rfl (S.2.2.1 _ hlk rfl) (hts _ h2) h5 hro1, h4, hts _ h1⟩ ⟨hP1, hP2⟩ rfl hln hl rfl (lv_room hro) hdg (hn.fit hg hb)) hS (fun H1 locs1 g1 g2 => kk H1 locs1 _ _ g1 g2 (hn.call hg hb))
/-- a nest mate's static method that is computed from the arguments alone -/
theorem s_callN {y : MethodName} {cy : ByteArray} {nLy n idx : Nat} {rty : Option FieldType} {rm : Room} {As st : List Value} {rv : Option Value} {host : String} (S : CallFix p m c cc nL s args lw_all own) (hN : xNK s) (hM : sMet l y cy nLy rty rm As rv) (hI : wInfS y cy nLy rty n) (hlk : Cond.methodLinkNest own idx y host ∈ lw_tbl) (hrm : rm.cells = 0 ∧ rm.slots = 0) (hR : rm.frames + 1 ≤ R.frames ∧ 8 + (nLy + 11) + rm.locals ≤ R.locals) (hn : As.length = n) (hl : ls.size = nL) (hst : st = As.reverse ++ rest) (hro : (rest.map fun v => v.category).sum ≤ 8) (hdg : decode cc pc = .ok (.invokestatic idx, 3)) (hf : cells ≤ R.cells ∧ slots ≤ R.slots)
    (kk : W p l e R s m args below meth c H locs cells slots Q (F0 m (pc + 3) ls (rv.toList ++ rest))) : W p l e R s m args below meth c H locs cells slots Q (F0 m pc ls st) := by
  subst hst
  obtain ⟨h1, h2, h3, h4⟩ := hI
  have hr := va_runSN (e := e) (meth := meth) (below := below) (H := H) (locs := locs) (cells := cells) (slots := slots) (g := F0 m pc ls (As.reverse ++ rest)) (As := As) (rest := rest) S hM ⟨va_cnB n S.2.2.2.2 (lw_meth h3) rfl hrm.1 hrm.2 (hN _ hlk rfl) (S.2.2.2.2 _ h2) h4 hR, S.2.2.2.2 _ h1, trivial⟩ ⟨fun a U g mk q => ⟨q.1, trivial⟩, fun U _ _ => ⟨rfl, trivial⟩⟩ rfl hn hl rfl (lv_room hro) hdg hf
  intro T hT X
  obtain ⟨v, st₀, t, T', L, h0, X', hL, e1, e2, ⟨hv, hh⟩, st⟩ := hr T hT X
  cases hv
  obtain ⟨t2, a1, b1⟩ := kk T' (by rw [e1, hh, h0]) (Stand.forget X' (fun q h => (hL q h).elim))
  exact ⟨t2, st t2 a1, b1⟩
theorem XN.cs (h : XN cells slots n0 s0 nf sf σ) : cells ≤ (xRm F L (nf - n0) (sf - s0)).cells ∧ slots ≤ (xRm F L (nf - n0) (sf - s0)).slots := by
  obtain ⟨a1, a2, a3, a4⟩ := h
  constructor
  · show cells ≤ nf - n0
    omega
  · show slots ≤ sf - s0
    omega
end XCALL
