/-! arrays, cells that are made, ends of methods, calls -/
theorem vp_cell_i' {D0 : va_G} {cl0 : List vw_C} {cA : ClassId} {n : Nat} {f : Nat → Int32} {a : Nat} {H : Heap} (h : va_at D0 cl0 (a, .inl (cA, n, .inl f)) H) : H[a]? = some (arrV cA n (fun j => .int (f j))) := h
theorem vp_cell_l' {D0 : va_G} {cl0 : List vw_C} {cA : ClassId} {n : Nat} {f : Nat → Int64} {a : Nat} {H : Heap} (h : va_at D0 cl0 (a, .inl (cA, n, .inr (.inl f))) H) : H[a]? = some (arrV cA n (fun j => .long (f j))) := h
theorem vp_cell_q' {D0 : va_G} {cl0 : List vw_C} {cA : ClassId} {n : Nat} {f : Nat → Option Nat} {a : Nat} {H : Heap} (h : va_at D0 cl0 (a, .inl (cA, n, .inr (.inr (.inr (.inr f))))) H) : H[a]? = some (arrV cA n (fun j => va_rf (f j))) := h
theorem arrV_upI {cA : ClassId} {n k : Nat} {f : Nat → Int32} {v : Int32} : (arrV cA n (fun j => .int (f j))).setSlot k (.int v) = arrV cA n (fun j => .int (upd f k v j)) := by
  rw [arrV_store]
  congr 1
  funext q
  by_cases hq : q = k
  · subst hq; simp [updV, upd]
  · simp [updV, upd, hq]
theorem arrV_upJ {cA : ClassId} {n k : Nat} {f : Nat → Int64} {v : Int64} : (arrV cA n (fun j => .long (f j))).setSlot k (.long v) = arrV cA n (fun j => .long (vp_updL f k v j)) := by
  rw [arrV_store]
  congr 1
  funext q
  by_cases hq : q = k
  · subst hq; simp [updV, vp_updL]
  · simp [updV, vp_updL, hq]
theorem arrV_upR {cA : ClassId} {n k : Nat} {f : Nat → Option Nat} {v : Option Nat} : (arrV cA n (fun j => va_rf (f j))).setSlot k (va_rf v) = arrV cA n (fun j => va_rf (va_up f k v j)) := by
  rw [arrV_store]
  congr 1
  funext q
  by_cases hq : q = k
  · subst hq; simp [updV, va_up]
  · simp [updV, va_up, hq]
theorem x_in {i : Int32} {n : Nat} {cA : ClassId} {f : Nat → Value} (h : xin i n = true) : ¬ (i < 0 ∨ (arrV cA n f).slots.size ≤ i.toNatClampNeg) := by rw [arrV_size]; exact xin_p h
theorem x_rd {i : Int32} {n : Nat} {cA : ClassId} {f : Nat → Value} (h : xin i n = true) : (arrV cA n f).slots[i.toNatClampNeg]? = some (f i.toNatClampNeg) := arrV_read _ _ (Nat.not_le.mp fun q => xin_p h (Or.inr q))
section WARR
variable {p : Program} {l : Launch} {e : Env} {R : Room} {s : State} {m : MethodId} {args : Array Value} {below : List Frame} {meth : Method} {c : Code} {H : Heap} {locs : List Loc} {cells slots : Nat} {Q : State → Prop}
variable {cc : ByteArray} {pc nL : Nat} {ls : Array Slot} {rest : List Value} {rt : Option FieldType} {own : String} {E : xG} {σ σ' : xS} {a idx : Nat} {H0 : Heap} {i : Int32}
theorem x_sl1 {k : Nat} {v : Int32} (S : xSt E own p m c cc nL s args meth rt) (hR : xR E σ H) (h : xla 1 σ k i = some v) (hdg : decode cc pc = .ok (.iaload, 1))
    (kk : W p l e R s m args below meth c H locs cells slots Q (F0 m (pc + 1) ls (.int v :: rest))) : W p l e R s m args below meth c H locs cells slots Q (F0 m pc ls (.int i :: .ref (xar E k) :: rest)) := by
  unfold xla at h
  split at h
  · next q =>
    obtain rfl := Option.some.inj h
    have hc := hR.1 _ _ (Or.inr (Or.inr (Or.inl ⟨k, xak_lt (by rw [q.1]; decide), rfl, rfl⟩)))
    rw [show xct σ k = (xal k, .inl (xA σ k)) by simp [xct, q.1], q.1] at hc
    exact W.iald S.1.1.1 S.1.1.2.1 (vp_cell_i' hc) ((wtys S.2.1 (t := 1) (by decide)).1 _ _) (fun q => by cases q) (x_in q.2) (x_rd q.2) rfl rfl hdg kk
  · cases h
theorem x_sl2 {k : Nat} {v : Int32} (S : xSt E own p m c cc nL s args meth rt) (hR : xR E σ H) (h : xla 2 σ k i = some v) (hdg : decode cc pc = .ok (.baload, 1))
    (kk : W p l e R s m args below meth c H locs cells slots Q (F0 m (pc + 1) ls (.int v :: rest))) : W p l e R s m args below meth c H locs cells slots Q (F0 m pc ls (.int i :: .ref (xar E k) :: rest)) := by
  unfold xla at h
  split at h
  · next q =>
    obtain rfl := Option.some.inj h
    have hc := hR.1 _ _ (Or.inr (Or.inr (Or.inl ⟨k, xak_lt (by rw [q.1]; decide), rfl, rfl⟩)))
    rw [show xct σ k = (xal k, .inl (xA σ k)) by simp [xct, q.1], q.1] at hc
    exact W.bald S.1.1.1 S.1.1.2.1 (vp_cell_i' hc) ((wtys S.2.1 (t := 2) (by decide)).1 _ _) (fun q => by cases q) (x_in q.2) (x_rd q.2) rfl rfl hdg kk
  · cases h
theorem x_sl3 {k : Nat} {v : Int32} (S : xSt E own p m c cc nL s args meth rt) (hR : xR E σ H) (h : xla 3 σ k i = some v) (hdg : decode cc pc = .ok (.saload, 1))
    (kk : W p l e R s m args below meth c H locs cells slots Q (F0 m (pc + 1) ls (.int v :: rest))) : W p l e R s m args below meth c H locs cells slots Q (F0 m pc ls (.int i :: .ref (xar E k) :: rest)) := by
  unfold xla at h
  split at h
  · next q =>
    obtain rfl := Option.some.inj h
    have hc := hR.1 _ _ (Or.inr (Or.inr (Or.inl ⟨k, xak_lt (by rw [q.1]; decide), rfl, rfl⟩)))
    rw [show xct σ k = (xal k, .inl (xA σ k)) by simp [xct, q.1], q.1] at hc
    exact W.sald S.1.1.1 S.1.1.2.1 (vp_cell_i' hc) ((wtys S.2.1 (t := 3) (by decide)).1 _ _) (fun q => by cases q) (x_in q.2) (x_rd q.2) rfl rfl hdg kk
  · cases h
theorem xty_obj {t : Nat} (h : 6 ≤ t) : ∃ C, xty t = .object C := by
  unfold xty
  split <;> first | omega | exact ⟨_, rfl⟩
theorem w_aald {f : Nat → Option Nat} {n t : Nat} (C : CallFix p m c cc nL s args lw_all own) (hK : va_K E.1 xcl (xtys E) s) (ht : t < 16) (h6 : 6 ≤ t) (hc : H[a]? = some (arrV (xtc E t) n (fun j => va_rf (f j)))) (hin : xin i n = true) (hdg : decode cc pc = .ok (.aaload, 1))
    (kk : W p l e R s m args below meth c H locs cells slots Q (F0 m (pc + 1) ls (va_rf (f i.toNatClampNeg) :: rest))) : W p l e R s m args below meth c H locs cells slots Q (F0 m pc ls (.int i :: .ref a :: rest)) := by
  obtain ⟨Cn, hCn⟩ := xty_obj h6
  have hA := (wtys hK ht).1
  rw [hCn] at hA
  exact W.aald (v := va_rf (f i.toNatClampNeg)) (ty := .object Cn) C.1 C.2.1 hc (hA n (fun j => va_rf (f j))) rfl (fun q => by cases q) (x_in hin) (x_rd hin) rfl rfl hdg kk
theorem x_slr {k : Nat} {v : Option Nat} (S : xSt E own p m c cc nL s args meth rt) (hR : xR E σ H) (h : xlr σ k i = some v) (hdg : decode cc pc = .ok (.aaload, 1))
    (kk : W p l e R s m args below meth c H locs cells slots Q (F0 m (pc + 1) ls (va_rf v :: rest))) : W p l e R s m args below meth c H locs cells slots Q (F0 m pc ls (.int i :: .ref (xar E k) :: rest)) := by
  unfold xlr at h
  split at h
  · next q =>
    obtain rfl := Option.some.inj h
    have hk := xak_lt (i := k) (by have := q.1; omega)
    have hc := hR.1 _ _ (Or.inr (Or.inr (Or.inl ⟨k, hk, rfl, rfl⟩)))
    rw [show xct σ k = (xal k, .inr (.inr (.inr (.inr (xRA σ k))))) by simp [xct, show ¬ xak k ≤ 5 by have := q.1; omega]] at hc
    exact w_aald S.1.1 S.2.1 (t := xak k) (by unfold xak; split <;> decide) q.1 (vp_cell_q' hc) q.2 hdg kk
  · cases h
theorem x_dl1 {v : Int32} (S : xSt E own p m c cc nL s args meth rt) (hR : xR E σ H) (h : xdl 1 σ a i = some v) (hdg : decode cc pc = .ok (.iaload, 1))
    (kk : W p l e R s m args below meth c H locs cells slots Q (F0 m (pc + 1) ls (.int v :: rest))) : W p l e R s m args below meth c H locs cells slots Q (F0 m pc ls (.int i :: .ref a :: rest)) := by
  refine k_bind h (fun z h1 h => ?_)
  split at h
  · split at h
    · next q =>
      obtain ⟨rfl, q⟩ := q
      obtain rfl := Option.some.inj h
      exact W.iald S.1.1.1 S.1.1.2.1 (vp_cell_i' (hR.1 _ _ (xW.lk (E := E) h1 (show 1 < 16 by decide)))) ((wtys S.2.1 (t := 1) (by decide)).1 _ _) (fun q => by cases q) (x_in q) (x_rd q) rfl rfl hdg kk
    · cases h
  · cases h
theorem x_dl2 {v : Int32} (S : xSt E own p m c cc nL s args meth rt) (hR : xR E σ H) (h : xdl 2 σ a i = some v) (hdg : decode cc pc = .ok (.baload, 1))
    (kk : W p l e R s m args below meth c H locs cells slots Q (F0 m (pc + 1) ls (.int v :: rest))) : W p l e R s m args below meth c H locs cells slots Q (F0 m pc ls (.int i :: .ref a :: rest)) := by
  refine k_bind h (fun z h1 h => ?_)
  split at h
  · split at h
    · next q =>
      obtain ⟨rfl, q⟩ := q
      obtain rfl := Option.some.inj h
      exact W.bald S.1.1.1 S.1.1.2.1 (vp_cell_i' (hR.1 _ _ (xW.lk (E := E) h1 (show 2 < 16 by decide)))) ((wtys S.2.1 (t := 2) (by decide)).1 _ _) (fun q => by cases q) (x_in q) (x_rd q) rfl rfl hdg kk
    · cases h
  · cases h
theorem x_dl5 {v : Int32} (S : xSt E own p m c cc nL s args meth rt) (hR : xR E σ H) (h : xdl 5 σ a i = some v) (hdg : decode cc pc = .ok (.baload, 1))
    (kk : W p l e R s m args below meth c H locs cells slots Q (F0 m (pc + 1) ls (.int v :: rest))) : W p l e R s m args below meth c H locs cells slots Q (F0 m pc ls (.int i :: .ref a :: rest)) := by
  refine k_bind h (fun z h1 h => ?_)
  split at h
  · split at h
    · next q =>
      obtain ⟨rfl, q⟩ := q
      obtain rfl := Option.some.inj h
      exact W.zald S.1.1.1 S.1.1.2.1 (vp_cell_i' (hR.1 _ _ (xW.lk (E := E) h1 (show 5 < 16 by decide)))) ((wtys S.2.1 (t := 5) (by decide)).1 _ _) (fun q => by cases q) (x_in q) (x_rd q) rfl rfl hdg kk
    · cases h
  · cases h
theorem x_dl3 {v : Int32} (S : xSt E own p m c cc nL s args meth rt) (hR : xR E σ H) (h : xdl 3 σ a i = some v) (hdg : decode cc pc = .ok (.saload, 1))
    (kk : W p l e R s m args below meth c H locs cells slots Q (F0 m (pc + 1) ls (.int v :: rest))) : W p l e R s m args below meth c H locs cells slots Q (F0 m pc ls (.int i :: .ref a :: rest)) := by
  refine k_bind h (fun z h1 h => ?_)
  split at h
  · split at h
    · next q =>
      obtain ⟨rfl, q⟩ := q
      obtain rfl := Option.some.inj h
      exact W.sald S.1.1.1 S.1.1.2.1 (vp_cell_i' (hR.1 _ _ (xW.lk (E := E) h1 (show 3 < 16 by decide)))) ((wtys S.2.1 (t := 3) (by decide)).1 _ _) (fun q => by cases q) (x_in q) (x_rd q) rfl rfl hdg kk
    · cases h
  · cases h
theorem x_dlJ {v : Int64} (S : xSt E own p m c cc nL s args meth rt) (hR : xR E σ H) (h : xdlJ σ a i = some v) (hdg : decode cc pc = .ok (.laload, 1))
    (kk : W p l e R s m args below meth c H locs cells slots Q (F0 m (pc + 1) ls (.long v :: rest))) : W p l e R s m args below meth c H locs cells slots Q (F0 m pc ls (.int i :: .ref a :: rest)) := by
  refine k_bind h (fun z h1 h => ?_)
  split at h
  · split at h
    · next q =>
      obtain ⟨rfl, q⟩ := q
      obtain rfl := Option.some.inj h
      exact W.lald S.1.1.1 S.1.1.2.1 (vp_cell_l' (hR.1 _ _ (xW.lk (E := E) h1 (show 4 < 16 by decide)))) ((wtys S.2.1 (t := 4) (by decide)).1 _ _) (fun q => by cases q) (x_in q) (x_rd q) rfl rfl hdg kk
    · cases h
  · cases h
theorem x_dlR {v : Option Nat} (S : xSt E own p m c cc nL s args meth rt) (hR : xR E σ H) (h : xdlR σ a i = some v) (hdg : decode cc pc = .ok (.aaload, 1))
    (kk : W p l e R s m args below meth c H locs cells slots Q (F0 m (pc + 1) ls (va_rf v :: rest))) : W p l e R s m args below meth c H locs cells slots Q (F0 m pc ls (.int i :: .ref a :: rest)) := by
  refine k_bind h (fun z h1 h => ?_)
  split at h
  · split at h
    · next q =>
      obtain rfl := Option.some.inj h
      exact w_aald S.1.1 S.2.1 q.2.1 q.1 (vp_cell_q' (hR.1 _ _ (xW.lk (E := E) h1 q.2.1))) q.2.2 hdg kk
    · cases h
  · cases h
theorem x_alen {v : Int32} (S : xSt E own p m c cc nL s args meth rt) (hR : xR E σ H) (h : xle σ a = some v) (hdg : decode cc pc = .ok (.arraylength, 1))
    (kk : W p l e R s m args below meth c H locs cells slots Q (F0 m (pc + 1) ls (.int v :: rest))) : W p l e R s m args below meth c H locs cells slots Q (F0 m pc ls (.ref a :: rest)) := by
  refine k_bind h (fun z h1 h => ?_)
  split at h
  · split at h
    · next q t n y ht =>
      obtain rfl := Option.some.inj h
      exact va_alen (ws := [(a, .inl (xtc E t, n, y))]) (tys := [(xtc E t, xty t)]) S.1.1.1 S.1.1.2.1 ⟨S.2.1.1, fun k q hk => by
        have : k < 1 := (List.getElem?_eq_some_iff.mp hk).1
        obtain rfl : k = 0 := by omega
        cases hk
        exact wtys S.2.1 ht⟩ (fun k q hk => by
        have : k < 1 := (List.getElem?_eq_some_iff.mp hk).1
        obtain rfl : k = 0 := by omega
        cases hk
        exact hR.1 _ _ (xW.lk (E := E) h1 ht)) 0 0 rfl rfl rfl hdg kk
    · cases h
  · cases h
/-- static stores -/
theorem xR.sar {H1 : Heap} {k : Nat} (hE : xOK E) (hR : xR E σ H) (hk : k < 16) (h0 : xF0 E σ' = xF0 E σ) (h1 : ∀ j, xF1 E σ' j = xF1 E σ j) (h2 : ∀ q, q ≠ k → xct σ' q = xct σ q) (h3 : xD σ' = xD σ) (h4 : xC σ' = xC σ) (h5 : xnx σ' = xnx σ) (h6 : xT σ' = xT σ) (hz : H1.size = H.size) (hc : H1[xar E k]? = some (vp_cell (xtc E (xak k)) (xct σ' k))) (oq : ∀ q, q ≠ xar E k → H1[q]? = H[q]?) : xR E σ' H1 := by
  refine ⟨hR.1.put (e' := .inl (xtc E (xak k), xct σ' k)) (a := xar E k) hc oq (fun b f hb => xW.sar hE hR.2.1 hk h0 h1 h2 h3 h4 hb), ?_, by rw [hz, h5]; exact hR.2.2⟩
  obtain ⟨b1, b2, b3, b4, b5, b6, b7, b8⟩ := hR.2.1
  exact ⟨by rw [h3]; exact b1, by rw [h4]; exact b2, by rw [h5]; exact b3, by rw [h5]; exact b4, by rw [h3, h5]; exact b5, by rw [h6]; exact b6, by rw [h6]; exact b7, by rw [h6]; exact b8⟩
theorem xst_ar {k : Nat} (hE : xOK E) (h : k < 16) : xAA E (xar E k) := hE.2.2.2.2.2 _ (Or.inr (Or.inr ⟨k, h, rfl⟩))
theorem x_ss1 {k : Nat} {v : Int32} (S : xSt E own p m c cc nL s args meth rt) (hR : xR E σ H) (hS : va_S (xAA E) H0 H locs) (h : xsa 1 σ k i v = some σ') (hdg : decode cc pc = .ok (.iastore, 1))
    (kk : ∀ (H1 : Heap) (locs1 : List Loc), xR E σ' H1 → va_S (xAA E) H0 H1 locs1 → W p l e R s m args below meth c H1 locs1 cells slots Q (F0 m (pc + 1) ls rest)) : W p l e R s m args below meth c H locs cells slots Q (F0 m pc ls (.int v :: .int i :: .ref (xar E k) :: rest)) := by
  unfold xsa at h
  split at h
  · next q =>
    obtain rfl := Option.some.inj h
    have hk : k < 16 := xak_lt (by rw [q.1]; decide)
    have hc := hR.1 _ _ (Or.inr (Or.inr (Or.inl ⟨k, hk, rfl, rfl⟩)))
    rw [show xct σ k = (xal k, .inl (xA σ k)) by simp [xct, q.1], q.1] at hc
    refine W.iast S.1.1.1 S.1.1.2.1 (vp_cell_i' hc) ((wtys S.2.1 (t := 1) (by decide)).1 _ _) (fun q => by cases q) (x_in q.2) rfl rfl hdg fun H1 e1 z oq => ?_
    refine kk H1 _ (hR.sar S.2.2.2 hk rfl (fun _ => rfl) (fun j hj => by simp [xct, xuA, xA, hj]) rfl rfl rfl rfl z ?_ oq) (hS.put z oq (xst_ar S.2.2.2 hk))
    rw [e1, show xct (xuA σ k i.toNatClampNeg (xnr 1 v)) k = (xal k, .inl (upd (xA σ k) i.toNatClampNeg v)) by simp [xct, q.1, xuA, xA, xnr], q.1, vp_cell_i, ← arrV_upI]
  · cases h
theorem x_ss2 {k : Nat} {v : Int32} (S : xSt E own p m c cc nL s args meth rt) (hR : xR E σ H) (hS : va_S (xAA E) H0 H locs) (h : xsa 2 σ k i v = some σ') (hdg : decode cc pc = .ok (.bastore, 1))
    (kk : ∀ (H1 : Heap) (locs1 : List Loc), xR E σ' H1 → va_S (xAA E) H0 H1 locs1 → W p l e R s m args below meth c H1 locs1 cells slots Q (F0 m (pc + 1) ls rest)) : W p l e R s m args below meth c H locs cells slots Q (F0 m pc ls (.int v :: .int i :: .ref (xar E k) :: rest)) := by
  unfold xsa at h
  split at h
  · next q =>
    obtain rfl := Option.some.inj h
    have hk : k < 16 := xak_lt (by rw [q.1]; decide)
    have hc := hR.1 _ _ (Or.inr (Or.inr (Or.inl ⟨k, hk, rfl, rfl⟩)))
    rw [show xct σ k = (xal k, .inl (xA σ k)) by simp [xct, q.1], q.1] at hc
    refine W.bast S.1.1.1 S.1.1.2.1 (vp_cell_i' hc) ((wtys S.2.1 (t := 2) (by decide)).1 _ _) (fun q => by cases q) (x_in q.2) rfl rfl hdg fun H1 e1 z oq => ?_
    refine kk H1 _ (hR.sar S.2.2.2 hk rfl (fun _ => rfl) (fun j hj => by simp [xct, xuA, xA, hj]) rfl rfl rfl rfl z ?_ oq) (hS.put z oq (xst_ar S.2.2.2 hk))
    rw [e1, show xct (xuA σ k i.toNatClampNeg (xnr 2 v)) k = (xal k, .inl (upd (xA σ k) i.toNatClampNeg v.toInt8.toInt32)) by simp [xct, q.1, xuA, xA, xnr], q.1, vp_cell_i, ← arrV_upI]
    rfl
  · cases h
theorem x_ss3 {k : Nat} {v : Int32} (S : xSt E own p m c cc nL s args meth rt) (hR : xR E σ H) (hS : va_S (xAA E) H0 H locs) (h : xsa 3 σ k i v = some σ') (hdg : decode cc pc = .ok (.sastore, 1))
    (kk : ∀ (H1 : Heap) (locs1 : List Loc), xR E σ' H1 → va_S (xAA E) H0 H1 locs1 → W p l e R s m args below meth c H1 locs1 cells slots Q (F0 m (pc + 1) ls rest)) : W p l e R s m args below meth c H locs cells slots Q (F0 m pc ls (.int v :: .int i :: .ref (xar E k) :: rest)) := by
  unfold xsa at h
  split at h
  · next q =>
    obtain rfl := Option.some.inj h
    have hk : k < 16 := xak_lt (by rw [q.1]; decide)
    have hc := hR.1 _ _ (Or.inr (Or.inr (Or.inl ⟨k, hk, rfl, rfl⟩)))
    rw [show xct σ k = (xal k, .inl (xA σ k)) by simp [xct, q.1], q.1] at hc
    refine W.sast S.1.1.1 S.1.1.2.1 (vp_cell_i' hc) ((wtys S.2.1 (t := 3) (by decide)).1 _ _) (fun q => by cases q) (x_in q.2) rfl rfl hdg fun H1 e1 z oq => ?_
    refine kk H1 _ (hR.sar S.2.2.2 hk rfl (fun _ => rfl) (fun j hj => by simp [xct, xuA, xA, hj]) rfl rfl rfl rfl z ?_ oq) (hS.put z oq (xst_ar S.2.2.2 hk))
    rw [e1, show xct (xuA σ k i.toNatClampNeg (xnr 3 v)) k = (xal k, .inl (upd (xA σ k) i.toNatClampNeg v.toInt16.toInt32)) by simp [xct, q.1, xuA, xA, xnr], q.1, vp_cell_i, ← arrV_upI]
    rfl
  · cases h
/-- a reference's class fits an array's -/
theorem xtk_can {t ci : Nat} (h : xtk t ci = true) : t < 16 ∧ ∃ (q : vw_C) (C : String), xcl[ci]? = some q ∧ xty t = .object C ∧ (q.1 = C ∨ Cond.castable q.1 C ∈ lw_tbl) := by
  unfold xtk at h
  simp only [Bool.or_eq_true, Bool.and_eq_true, beq_iff_eq] at h
  rcases h with ((((((⟨rfl, h⟩ | ⟨rfl, rfl⟩) | ⟨rfl, rfl⟩) | ⟨rfl, rfl⟩) | ⟨rfl, rfl⟩) | ⟨rfl, rfl⟩) | ⟨rfl, h⟩) | ⟨rfl, rfl⟩
  · rcases h with ((((rfl | rfl) | rfl) | rfl) | rfl) | rfl
    · exact ⟨by decide, _, _, rfl, rfl, Or.inl rfl⟩
    · exact ⟨by decide, _, _, rfl, rfl, Or.inr q3123⟩
    · exact ⟨by decide, _, _, rfl, rfl, Or.inr q3120⟩
    · exact ⟨by decide, _, _, rfl, rfl, Or.inr q3122⟩
    · exact ⟨by decide, _, _, rfl, rfl, Or.inr q3121⟩
    · exact ⟨by decide, _, _, rfl, rfl, Or.inr q3124⟩
  · exact ⟨by decide, _, _, rfl, rfl, Or.inl rfl⟩
  · exact ⟨by decide, _, _, rfl, rfl, Or.inl rfl⟩
  · exact ⟨by decide, _, _, rfl, rfl, Or.inl rfl⟩
  · exact ⟨by decide, _, _, rfl, rfl, Or.inl rfl⟩
  · exact ⟨by decide, _, _, rfl, rfl, Or.inl rfl⟩
  · rcases h with (rfl | rfl) | rfl
    · exact ⟨by decide, _, _, rfl, rfl, Or.inl rfl⟩
    · exact ⟨by decide, _, _, rfl, rfl, Or.inr q3174⟩
    · exact ⟨by decide, _, _, rfl, rfl, Or.inr q3175⟩
  · exact ⟨by decide, _, _, rfl, rfl, Or.inl rfl⟩
theorem w_aast {n t : Nat} {f : Nat → Option Nat} {r : Option Nat} (S : xSt E own p m c cc nL s args meth rt) (hR : xR E σ H) (ht : t < 16) (h6 : 6 ≤ t) (hc : H[a]? = some (arrV (xtc E t) n (fun j => va_rf (f j)))) (hin : xin i n = true) (ho : xoc σ t r = true) (hdg : decode cc pc = .ok (.aastore, 1))
    (kk : ∀ (H1 : Heap), H1[a]? = some (arrV (xtc E t) n (fun j => va_rf (va_up f i.toNatClampNeg r j))) → H1.size = H.size → (∀ q, q ≠ a → H1[q]? = H[q]?) → W p l e R s m args below meth c H1 (locs ++ [⟨a, i.toNatClampNeg⟩]) cells slots Q (F0 m (pc + 1) ls rest)) : W p l e R s m args below meth c H locs cells slots Q (F0 m pc ls (va_rf r :: .int i :: .ref a :: rest)) := by
  obtain ⟨Cn, hCn⟩ := xty_obj h6
  have hA := (wtys S.2.1 ht).1
  have hB := (wtys S.2.1 ht).2
  rw [hCn] at hA hB
  cases r with
  | none =>
    refine va_WaastN (C := Cn) S.1.1.1 S.1.1.2.1 hc (hA n (fun j => va_rf (f j))) (fun h => by cases h) (x_in hin) rfl rfl hdg fun H1 e1 z oq => ?_
    refine kk H1 ?_ z oq
    rw [e1, ← arrV_upR]
    rfl
  | some v =>
    unfold xoc at ho
    dsimp only at ho
    split at ho
    · next o ho1 =>
      obtain ⟨-, q, C2, h1, h2, h3⟩ := xtk_can ho
      cases hCn.symm.trans h2
      have hreg : xreg (.inr o) := by
        have h9 : o.1 < xcl.length := (List.getElem?_eq_some_iff.mp h1).1
        have h8 : xcl.length = 32 := rfl
        show o.1 < 64
        omega
      obtain ⟨r', hr', cellV, g1, g2, g3, -⟩ := hR.1 _ _ (xW.lk (E := E) ho1 hreg)
      cases h1.symm.trans hr'
      have hcls := (S.2.1.1 o.1 _ h1).2
      obtain ⟨kA, comp, k1, k2, k3, -⟩ := hB
      obtain ⟨kE, hkE, -⟩ := Vm.findClass_spec k3
      have hasg : s.vm.assignable cellV.cls comp = true := by
        rcases h3 with h3 | h3
        · have hcomp : comp = E.1.1 o.1 := Option.some.inj (k3.symm.trans (h3 ▸ hcls.1))
          rw [g2, hcomp]
          exact va_assign hcls
        · obtain ⟨c0, t1, f1, f2, f3⟩ := Cond.castable_spec (va_Nw.use (A := args) rfl (S.2.2.1 _ h3 rfl))
          cases hcls.1.symm.trans f1
          cases k3.symm.trans f2
          rw [g2]
          exact f3
      obtain ⟨kC, hkC, -⟩ := hcls.2
      refine W.aast S.1.1.1 S.1.1.2.1 hc (fun q h => by cases h) (fun h => by cases h) k1 k2 rfl hkE ⟨fun q => xin_p hin (Or.inl q), by rw [arrV_size]; exact Nat.not_le.mp fun q => xin_p hin (Or.inr q)⟩ g1 (fun q h => by rw [g3] at h; cases h) (by rw [g2]; exact hkC) hasg rfl rfl hdg fun H1 e1 z oq => ?_
      refine kk H1 ?_ z oq
      rw [e1, ← arrV_upR]
      rfl
    · cases ho
theorem x_ssr {k : Nat} {r : Option Nat} (S : xSt E own p m c cc nL s args meth rt) (hR : xR E σ H) (hS : va_S (xAA E) H0 H locs) (h : xsr σ k i r = some σ') (hdg : decode cc pc = .ok (.aastore, 1))
    (kk : ∀ (H1 : Heap) (locs1 : List Loc), xR E σ' H1 → va_S (xAA E) H0 H1 locs1 → W p l e R s m args below meth c H1 locs1 cells slots Q (F0 m (pc + 1) ls rest)) : W p l e R s m args below meth c H locs cells slots Q (F0 m pc ls (va_rf r :: .int i :: .ref (xar E k) :: rest)) := by
  unfold xsr at h
  split at h
  · next q =>
    obtain rfl := Option.some.inj h
    have hk : k < 16 := xak_lt (by have := q.1; omega)
    have hc := hR.1 _ _ (Or.inr (Or.inr (Or.inl ⟨k, hk, rfl, rfl⟩)))
    have h5 : ¬ xak k ≤ 5 := by have := q.1; omega
    rw [show xct σ k = (xal k, .inr (.inr (.inr (.inr (xRA σ k))))) by simp [xct, h5]] at hc
    refine w_aast S hR (t := xak k) (by unfold xak; split <;> decide) q.1 (vp_cell_q' hc) q.2.1 q.2.2 hdg fun H1 e1 z oq => ?_
    refine kk H1 _ (hR.sar S.2.2.2 hk rfl (fun _ => rfl) (fun j hj => by simp [xct, xuR, xRA, hj]) rfl rfl rfl rfl z ?_ oq) (hS.put z oq (xst_ar S.2.2.2 hk))
    rw [e1, show xct (xuR σ k i.toNatClampNeg r) k = (xal k, .inr (.inr (.inr (.inr (va_up (xRA σ k) i.toNatClampNeg r))))) by simp [xct, h5, xuR, xRA], vp_cell_q]
  · cases h
/-- dynamic stores -/
theorem xR.dst {H1 : Heap} {z y : xE} (hR : xR E σ H) (h : xD σ a = some z) (hz : H1.size = H.size) (hc : va_at E.1 xcl (a, xto E y) H1) (oq : ∀ q, q ≠ a → H1[q]? = H[q]?) : xR E (xuD σ a y) H1 :=
  ⟨hR.1.put (e' := xto E y) (a := a) hc oq (fun b f hb => xW.dyn hR.2.1 h hb), hR.2.1.dyn h, hz.trans hR.2.2⟩
theorem x_ds1 {v : Int32} (S : xSt E own p m c cc nL s args meth rt) (hR : xR E σ H) (hS : va_S (xAA E) H0 H locs) (h : xds 1 σ a i v = some σ') (hdg : decode cc pc = .ok (.iastore, 1))
    (kk : ∀ (H1 : Heap) (locs1 : List Loc), xR E σ' H1 → va_S (xAA E) H0 H1 locs1 → W p l e R s m args below meth c H1 locs1 cells slots Q (F0 m (pc + 1) ls rest)) : W p l e R s m args below meth c H locs cells slots Q (F0 m pc ls (.int v :: .int i :: .ref a :: rest)) := by
  refine k_bind h (fun z h1 h => ?_)
  split at h
  · split at h
    · next q =>
      obtain ⟨rfl, q⟩ := q
      obtain rfl := Option.some.inj h
      refine W.iast S.1.1.1 S.1.1.2.1 (vp_cell_i' (hR.1 _ _ (xW.lk (E := E) (xlk_D h1) (show 1 < 16 by decide)))) ((wtys S.2.1 (t := 1) (by decide)).1 _ _) (fun q => by cases q) (x_in q) rfl rfl hdg fun H1 e1 z oq => ?_
      exact kk H1 _ (hR.dst h1 z (by rw [arrV_upI] at e1; exact e1) oq) (hS.put z oq (hR.2.1.1 _ _ h1).1)
    · cases h
  · cases h
theorem x_ds2 {v : Int32} (S : xSt E own p m c cc nL s args meth rt) (hR : xR E σ H) (hS : va_S (xAA E) H0 H locs) (h : xds 2 σ a i v = some σ') (hdg : decode cc pc = .ok (.bastore, 1))
    (kk : ∀ (H1 : Heap) (locs1 : List Loc), xR E σ' H1 → va_S (xAA E) H0 H1 locs1 → W p l e R s m args below meth c H1 locs1 cells slots Q (F0 m (pc + 1) ls rest)) : W p l e R s m args below meth c H locs cells slots Q (F0 m pc ls (.int v :: .int i :: .ref a :: rest)) := by
  refine k_bind h (fun z h1 h => ?_)
  split at h
  · split at h
    · next q =>
      obtain ⟨rfl, q⟩ := q
      obtain rfl := Option.some.inj h
      refine W.bast S.1.1.1 S.1.1.2.1 (vp_cell_i' (hR.1 _ _ (xW.lk (E := E) (xlk_D h1) (show 2 < 16 by decide)))) ((wtys S.2.1 (t := 2) (by decide)).1 _ _) (fun q => by cases q) (x_in q) rfl rfl hdg fun H1 e1 z oq => ?_
      exact kk H1 _ (hR.dst h1 z (by rw [show narrow .byte (.int v) = .int (xnr 2 v) from rfl, arrV_upI] at e1; exact e1) oq) (hS.put z oq (hR.2.1.1 _ _ h1).1)
    · cases h
  · cases h
theorem x_ds5 {v : Int32} (S : xSt E own p m c cc nL s args meth rt) (hR : xR E σ H) (hS : va_S (xAA E) H0 H locs) (h : xds 5 σ a i v = some σ') (hdg : decode cc pc = .ok (.bastore, 1))
    (kk : ∀ (H1 : Heap) (locs1 : List Loc), xR E σ' H1 → va_S (xAA E) H0 H1 locs1 → W p l e R s m args below meth c H1 locs1 cells slots Q (F0 m (pc + 1) ls rest)) : W p l e R s m args below meth c H locs cells slots Q (F0 m pc ls (.int v :: .int i :: .ref a :: rest)) := by
  refine k_bind h (fun z h1 h => ?_)
  split at h
  · split at h
    · next q =>
      obtain ⟨rfl, q⟩ := q
      obtain rfl := Option.some.inj h
      refine W.zast S.1.1.1 S.1.1.2.1 (vp_cell_i' (hR.1 _ _ (xW.lk (E := E) (xlk_D h1) (show 5 < 16 by decide)))) ((wtys S.2.1 (t := 5) (by decide)).1 _ _) (fun q => by cases q) (x_in q) rfl rfl hdg fun H1 e1 z oq => ?_
      exact kk H1 _ (hR.dst h1 z (by rw [show narrow .boolean (.int v) = .int (xnr 5 v) from rfl, arrV_upI] at e1; exact e1) oq) (hS.put z oq (hR.2.1.1 _ _ h1).1)
    · cases h
  · cases h
theorem x_ds3 {v : Int32} (S : xSt E own p m c cc nL s args meth rt) (hR : xR E σ H) (hS : va_S (xAA E) H0 H locs) (h : xds 3 σ a i v = some σ') (hdg : decode cc pc = .ok (.sastore, 1))
    (kk : ∀ (H1 : Heap) (locs1 : List Loc), xR E σ' H1 → va_S (xAA E) H0 H1 locs1 → W p l e R s m args below meth c H1 locs1 cells slots Q (F0 m (pc + 1) ls rest)) : W p l e R s m args below meth c H locs cells slots Q (F0 m pc ls (.int v :: .int i :: .ref a :: rest)) := by
  refine k_bind h (fun z h1 h => ?_)
  split at h
  · split at h
    · next q =>
      obtain ⟨rfl, q⟩ := q
      obtain rfl := Option.some.inj h
      refine W.sast S.1.1.1 S.1.1.2.1 (vp_cell_i' (hR.1 _ _ (xW.lk (E := E) (xlk_D h1) (show 3 < 16 by decide)))) ((wtys S.2.1 (t := 3) (by decide)).1 _ _) (fun q => by cases q) (x_in q) rfl rfl hdg fun H1 e1 z oq => ?_
      exact kk H1 _ (hR.dst h1 z (by rw [show narrow .short (.int v) = .int (xnr 3 v) from rfl, arrV_upI] at e1; exact e1) oq) (hS.put z oq (hR.2.1.1 _ _ h1).1)
    · cases h
  · cases h
theorem x_dsJ {v : Int64} (S : xSt E own p m c cc nL s args meth rt) (hR : xR E σ H) (hS : va_S (xAA E) H0 H locs) (h : xdsJ σ a i v = some σ') (hdg : decode cc pc = .ok (.lastore, 1))
    (kk : ∀ (H1 : Heap) (locs1 : List Loc), xR E σ' H1 → va_S (xAA E) H0 H1 locs1 → W p l e R s m args below meth c H1 locs1 cells slots Q (F0 m (pc + 1) ls rest)) : W p l e R s m args below meth c H locs cells slots Q (F0 m pc ls (.long v :: .int i :: .ref a :: rest)) := by
  refine k_bind h (fun z h1 h => ?_)
  split at h
  · split at h
    · next q =>
      obtain ⟨rfl, q⟩ := q
      obtain rfl := Option.some.inj h
      refine W.last S.1.1.1 S.1.1.2.1 (vp_cell_l' (hR.1 _ _ (xW.lk (E := E) (xlk_D h1) (show 4 < 16 by decide)))) ((wtys S.2.1 (t := 4) (by decide)).1 _ _) (fun q => by cases q) (x_in q) rfl rfl hdg fun H1 e1 z oq => ?_
      exact kk H1 _ (hR.dst h1 z (by rw [arrV_upJ] at e1; exact e1) oq) (hS.put z oq (hR.2.1.1 _ _ h1).1)
    · cases h
  · cases h
theorem x_dsR {r : Option Nat} (S : xSt E own p m c cc nL s args meth rt) (hR : xR E σ H) (hS : va_S (xAA E) H0 H locs) (h : xdsR σ a i r = some σ') (hdg : decode cc pc = .ok (.aastore, 1))
    (kk : ∀ (H1 : Heap) (locs1 : List Loc), xR E σ' H1 → va_S (xAA E) H0 H1 locs1 → W p l e R s m args below meth c H1 locs1 cells slots Q (F0 m (pc + 1) ls rest)) : W p l e R s m args below meth c H locs cells slots Q (F0 m pc ls (va_rf r :: .int i :: .ref a :: rest)) := by
  refine k_bind h (fun z h1 h => ?_)
  split at h
  · split at h
    · next q =>
      obtain rfl := Option.some.inj h
      refine w_aast S hR q.2.1 q.1 (vp_cell_q' (hR.1 _ _ (xW.lk (E := E) (xlk_D h1) q.2.1))) q.2.2.1 q.2.2.2 hdg fun H1 e1 z oq => ?_
      exact kk H1 _ (hR.dst h1 z e1 oq) (hS.put z oq (hR.2.1.1 _ _ h1).1)
    · cases h
  · cases h
end WARR
