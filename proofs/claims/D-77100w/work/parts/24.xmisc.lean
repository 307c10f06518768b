/-! references that may be null; statics held in dynamic fields -/
section XMISC
variable {p : Program} {l : Launch} {e : Env} {R : Room} {s : State} {m : MethodId} {args : Array Value} {below : List Frame} {meth : Method} {c : Code} {H : Heap} {locs : List Loc} {cells slots : Nat} {Q : State → Prop}
variable {cc : ByteArray} {pc nL : Nat} {ls : Array Slot} {rest : List Value} {rt : Option FieldType} {own : String} {E : xG} {σ σ' : xS} {a idx n0 s0 nf sf F L : Nat} {H0 : Heap}
theorem x_aload_n (hexec : p.tables.exec = Jvm.exec) (hb : c.code = cc) {k : Fin 4} {i : Nat} {r : Option Nat} (hdg : decode cc pc = .ok (.aload_n k, 1)) (hi : (k : Nat) = i) (hl : ls[i]? = some (.val (va_rf r)))
    (kk : W p l e R s m args below meth c H locs cells slots Q (F0 m (pc + 1) ls (va_rf r :: rest))) : W p l e R s m args below meth c H locs cells slots Q (F0 m pc ls rest) := by
  cases r with
  | none => exact lv_aload_nN hexec hb hdg hi hl kk
  | some x => exact lv_aload_n hexec hb hdg hi hl kk
theorem x_aload (hexec : p.tables.exec = Jvm.exec) (hb : c.code = cc) {i : Nat} {r : Option Nat} (hdg : decode cc pc = .ok (.aload i, 2)) (hl : ls[i]? = some (.val (va_rf r)))
    (kk : W p l e R s m args below meth c H locs cells slots Q (F0 m (pc + 2) ls (va_rf r :: rest))) : W p l e R s m args below meth c H locs cells slots Q (F0 m pc ls rest) := by
  cases r with
  | none => exact lv_aloadN hexec hb hdg hl kk
  | some x => exact lv_aload hexec hb hdg hl kk
theorem x_astore_n (hexec : p.tables.exec = Jvm.exec) (hb : c.code = cc) {k : Fin 4} {i nL : Nat} {r : Option Nat} {lv lv' : List (Nat × Value)} (hdg : decode cc pc = .ok (.astore_n k, 1)) (hi : (k : Nat) = i) (h : lv_has ls nL lv) (hn : i < nL) (hl : (i, va_rf r) :: lv.filter (fun q => !(q.1 == i) && !(q.1 + 1 == i && q.2.category == 2)) = lv')
    (kk : ∀ ls' : Array Slot, lv_has ls' nL lv' → W p l e R s m args below meth c H locs cells slots Q (F0 m (pc + 1) ls' rest)) : W p l e R s m args below meth c H locs cells slots Q (F0 m pc ls (va_rf r :: rest)) := by
  cases r with
  | none => exact lv_astore_nN hexec hb hdg hi h hn hl kk
  | some x => exact lv_astore_n hexec hb hdg hi h hn hl kk
theorem x_astore (hexec : p.tables.exec = Jvm.exec) (hb : c.code = cc) {i nL : Nat} {r : Option Nat} {lv lv' : List (Nat × Value)} (hdg : decode cc pc = .ok (.astore i, 2)) (h : lv_has ls nL lv) (hn : i < nL) (hl : (i, va_rf r) :: lv.filter (fun q => !(q.1 == i) && !(q.1 + 1 == i && q.2.category == 2)) = lv')
    (kk : ∀ ls' : Array Slot, lv_has ls' nL lv' → W p l e R s m args below meth c H locs cells slots Q (F0 m (pc + 2) ls' rest)) : W p l e R s m args below meth c H locs cells slots Q (F0 m pc ls (va_rf r :: rest)) := by
  cases r with
  | none => exact lv_astoreN hexec hb hdg h hn hl kk
  | some x => exact lv_astore hexec hb hdg h hn hl kk
theorem x_ifnull (hexec : p.tables.exec = Jvm.exec) (hb : c.code = cc) {r : Option Nat} {off : Int} {tgt : Nat} (hdg : decode cc pc = .ok (.ifnull off, 3)) (ht : (pc : Int) + off = (tgt : Int))
    (kt : r = none → W p l e R s m args below meth c H locs cells slots Q (F0 m tgt ls rest)) (kf : ¬ r = none → W p l e R s m args below meth c H locs cells slots Q (F0 m (pc + 3) ls rest)) : W p l e R s m args below meth c H locs cells slots Q (F0 m pc ls (va_rf r :: rest)) := by
  cases r with
  | none => exact lv_ifnullN hexec hb hdg ht (kt rfl)
  | some x => exact lv_ifnull hexec hb hdg (kf (fun h => by cases h))
theorem x_ifnonnull (hexec : p.tables.exec = Jvm.exec) (hb : c.code = cc) {r : Option Nat} {off : Int} {tgt : Nat} (hdg : decode cc pc = .ok (.ifnonnull off, 3)) (ht : (pc : Int) + off = (tgt : Int))
    (kt : ¬ r = none → W p l e R s m args below meth c H locs cells slots Q (F0 m tgt ls rest)) (kf : r = none → W p l e R s m args below meth c H locs cells slots Q (F0 m (pc + 3) ls rest)) : W p l e R s m args below meth c H locs cells slots Q (F0 m pc ls (va_rf r :: rest)) := by
  cases r with
  | none => exact lv_ifnonnullN hexec hb hdg (kf rfl)
  | some x => exact lv_ifnonnull hexec hb hdg ht (kt (fun h => by cases h))
theorem o_c {α : Type} {c : Prop} [Decidable c] {B : Option α} {r : α} (h : (if c then B else none) = some r) : c ∧ B = some r := by
  by_cases hc : c
  · rw [if_pos hc] at h; exact ⟨hc, h⟩
  · rw [if_neg hc] at h; cases h
theorem rf_net {r : Option Nat} (j : Fin 3) (hR : xR E σ H) (h : r = xT σ (2 + j.val)) : va_rf r = .ref (xnt E j) := by rw [h, hR.2.1.2.2.2.2.2.1 j]; rfl
theorem rf_obj {r : Option Nat} (hR : xR E σ H) (h : r = xT σ 5) : va_rf r = .ref (xo E) := by rw [h, hR.2.1.2.2.2.2.2.2.1]; rfl
theorem rf_tape {r : Option Nat} (hR : xR E σ H) (h : r = xT σ 6) : va_rf r = .ref (xar E 7) := by rw [h, hR.2.1.2.2.2.2.2.2.2]; rfl
end XMISC
/-- an object is made -/
def xnw (σ : xS) (z : xE) (N : Nat) : Option (Nat × xS) := some (xnx σ, xuM σ z N)
theorem r1_nw {σ : xS} {z : xE} {N : Nat} {q : Nat × xS} (h : xnw σ z N = some q) : rl1 σ q.2 := by
  obtain rfl := Option.some.inj h
  exact ⟨Nat.le_succ _, Nat.le_add_right _ _⟩
section XMISC2
variable {p : Program} {l : Launch} {e : Env} {R : Room} {s : State} {m : MethodId} {args : Array Value} {below : List Frame} {meth : Method} {c : Code} {H : Heap} {locs : List Loc} {cells slots : Nat} {Q : State → Prop}
variable {cc : ByteArray} {pc nL : Nat} {ls : Array Slot} {rest : List Value} {rt : Option FieldType} {own : String} {E : xG} {σ σ' : xS} {a idx n0 s0 nf sf F L : Nat} {H0 : Heap}
theorem x_newQ {ci N : Nat} {C : String} {T : u_T} {fs : List Value} {q : Nat × xS} {ty : Nat → FieldType} (S : xSt E own p m c cc nL s args meth rt) (hR : xR E σ H) (hS : va_S (xAA E) s.heap H locs) (hn : XN cells slots n0 s0 nf sf σ) (h : xnw σ (.inr (ci, fs)) N = some q) (hb : XB nf sf q.2) (hc : xcl[ci]? = some (C, T, N)) (hin : ∀ w ∈ u_ws C T N, w ∈ lw_all) (hty : ∀ k, k < N → parseFieldDescriptor (T k).2.2.1 = some (ty k)) (hfs : (List.range N).all (fun j => decide (defaultValue (ty j) = vp_V fs j)) = true) (hcl : Cond.classLink own idx C ∈ lw_all) (hinst : Cond.instantiable C N ∈ lw_all) (hini : Cond.initialized C ∈ lw_all) (hdg : decode cc pc = .ok (.new idx, 3))
    (kk : ∀ (H1 : Heap) (cells slots : Nat), xR E q.2 H1 → va_S (xAA E) s.heap H1 locs → XN cells slots n0 s0 nf sf q.2 → W p l e (xRm F L (nf - n0) (sf - s0)) s m args below meth c H1 locs cells slots Q (F0 m (pc + 3) ls (.ref q.1 :: rest))) : W p l e (xRm F L (nf - n0) (sf - s0)) s m args below meth c H locs cells slots Q (F0 m pc ls rest) := by
  obtain rfl := Option.some.inj h
  exact x_new S hR hS hn hb hc hin hty (fun j hj => of_decide_eq_true (List.all_eq_true.mp hfs j (List.mem_range.mpr hj))) hcl hinst hini hS.1 hdg (fun H1 g1 g2 g3 => kk H1 _ _ g1 g2 g3)
theorem x_salen {k : Nat} (S : xSt E own p m c cc nL s args meth rt) (hR : xR E σ H) (hk : k < 16) (hdg : decode cc pc = .ok (.arraylength, 1))
    (kk : W p l e R s m args below meth c H locs cells slots Q (F0 m (pc + 1) ls (.int (Int32.ofNat (xal k)) :: rest))) : W p l e R s m args below meth c H locs cells slots Q (F0 m pc ls (.ref (xar E k) :: rest)) := by
  have ht : xak k < 16 := by unfold xak; split <;> decide
  exact va_alen (ws := [(xar E k, .inl (xtc E (xak k), xct σ k))]) (tys := [(xtc E (xak k), xty (xak k))]) S.1.1.1 S.1.1.2.1 ⟨S.2.1.1, fun i q hi => by
        have : i < 1 := (List.getElem?_eq_some_iff.mp hi).1
        obtain rfl : i = 0 := by omega
        cases hi
        exact wtys S.2.1 ht⟩ (fun i q hi => by
        have : i < 1 := (List.getElem?_eq_some_iff.mp hi).1
        obtain rfl : i = 0 := by omega
        cases hi
        exact hR.1 _ _ (Or.inr (Or.inr (Or.inl ⟨k, hk, rfl, rfl⟩)))) 0 0 rfl rfl rfl hdg kk
end XMISC2
theorem rf_nar (r : Option Nat) (ty : FieldType) (h : (match ty with | .object _ => true | .array _ => true | _ => false) = true) : narrow ty (va_rf r) = va_rf r := by
  cases r <;> cases ty <;> first | rfl | cases h
theorem rf_fit (r : Option Nat) (ty : FieldType) (h : (match ty with | .object _ => true | .array _ => true | _ => false) = true) : fits ty (va_rf r) = true := by
  cases r <;> cases ty <;> first | rfl | cases h
theorem xNK.over {s : State} {C : String} (h : xNK s) (hw : Cond.arrayOver (.object C) ∈ lw_tbl) (hn : isNest (Cond.arrayOver (.object C)) = true) : va_AO C s := h _ hw hn
