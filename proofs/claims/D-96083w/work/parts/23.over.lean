/-! worlds with the same cells; over(a, b) at any two places; takeFrom -/
theorem arrV_ext {cA : ClassId} {n : Nat} {f g : Nat → Value} (h : ∀ j, j < n → f j = g j) : arrV cA n f = arrV cA n g := by
  unfold arrV
  congr 1
  apply congrArg Array.ofFn
  funext j
  exact h j.val j.isLt
/-- two cells that hold the same -/
def sameC (a b : va_E) : Prop := match a, b with
  | .inl x, .inl y => vp_cell x.1 x.2 = vp_cell y.1 y.2
  | .inr x, .inr y => x = y
  | _, _ => False
theorem sameC.rf (a : va_E) : sameC a a := by
  cases a <;> rfl
theorem sameC.i {cA : ClassId} {n : Nat} {f g : Nat → Int32} (h : ∀ j, j < n → f j = g j) : sameC (.inl (cA, n, .inl f)) (.inl (cA, n, .inl g)) := by
  show vp_cell cA (n, .inl f) = vp_cell cA (n, .inl g)
  rw [vp_cell_i, vp_cell_i]
  exact arrV_ext (fun j hj => by show Value.int (f j) = Value.int (g j); rw [h j hj])
theorem sameC.l {cA : ClassId} {n : Nat} {f g : Nat → Int64} (h : ∀ j, j < n → f j = g j) : sameC (.inl (cA, n, .inr (.inl f))) (.inl (cA, n, .inr (.inl g))) := by
  show vp_cell cA (n, .inr (.inl f)) = vp_cell cA (n, .inr (.inl g))
  rw [vp_cell_l, vp_cell_l]
  exact arrV_ext (fun j hj => by show Value.long (f j) = Value.long (g j); rw [h j hj])
/-- two worlds of the same cells, place by place -/
def sameW : va_W → va_W → Prop
  | [], [] => True
  | a :: s, b :: t => a.1 = b.1 ∧ sameC a.2 b.2 ∧ sameW s t
  | _, _ => False
theorem sameW.rf : ∀ w, sameW w w
  | [] => trivial
  | a :: t => ⟨rfl, sameC.rf _, sameW.rf t⟩
theorem sameW.app : ∀ {a b c d : va_W}, sameW a b → sameW c d → sameW (a ++ c) (b ++ d)
  | [], [], _, _, _, h => h
  | x :: s, y :: t, _, _, h1, h2 => ⟨h1.1, h1.2.1, sameW.app h1.2.2 h2⟩
  | [], _ :: _, _, _, h, _ => h.elim
  | _ :: _, [], _, _, h, _ => h.elim
theorem sameW.map : ∀ {a b : va_W}, sameW a b → a.map (fun q => q.1) = b.map (fun q => q.1)
  | [], [], _ => rfl
  | x :: s, y :: t, h => by rw [List.map_cons, List.map_cons, h.1, sameW.map h.2.2]
  | [], _ :: _, h => h.elim
  | _ :: _, [], h => h.elim
theorem sameW.mem : ∀ {a b : va_W}, sameW a b → ∀ y ∈ b, ∃ x ∈ a, x.1 = y.1 ∧ sameC x.2 y.2
  | [], [], _, _, hy => by cases hy
  | x :: s, y :: t, h, z, hz => by
    rcases List.mem_cons.mp hz with e | e
    · exact ⟨x, List.mem_cons_self, e ▸ h.1, e ▸ h.2.1⟩
    · obtain ⟨w, hw, h2⟩ := sameW.mem h.2.2 z e
      exact ⟨w, List.mem_cons_of_mem _ hw, h2⟩
  | [], _ :: _, h, _, _ => h.elim
  | _ :: _, [], h, _, _ => h.elim
theorem sameC.at {D : va_G} {cl : List vw_C} {H : Heap} {x y : Nat × va_E} (e : x.1 = y.1) (h : sameC x.2 y.2) (hx : va_at D cl x H) : va_at D cl y H := by
  obtain ⟨a, x⟩ := x
  obtain ⟨b, y⟩ := y
  obtain rfl : a = b := e
  cases x <;> cases y
  · exact Eq.trans hx (congrArg some h)
  · exact h.elim
  · exact h.elim
  · obtain rfl := h
    exact hx
theorem wI_same {E : En} {A : Nat → Prop} {s : State} {H : Heap} {locs : List Loc} {ws ws' : va_W} (h : sameW ws ws') (hI : wI E A s H locs ws) : wI E A s H locs ws' := by
  refine ⟨va_P_iff.mpr fun y hy => ?_, va_D_iff.mpr ⟨?_, fun y hy => ?_⟩, hI.2.2⟩
  · obtain ⟨x, hx, e, hc⟩ := h.mem y hy
    exact hc.at e (va_P_iff.mp hI.1 x hx)
  · rw [← h.map]; exact (va_D_iff.mp hI.2.1).1
  · obtain ⟨x, hx, e, -⟩ := h.mem y hy
    rw [← e]; exact (va_D_iff.mp hI.2.1).2 x hx
def cp8 (f g : Nat → Int32) (n : Nat) : Nat → Int32 := fun j => if j < n then f j else g j
theorem cp8_0 (f g : Nat → Int32) : cp8 f g 0 = g := by funext j; unfold cp8; rw [if_neg (Nat.not_lt_zero _)]
theorem cp8_s (f g : Nat → Int32) (i : Nat) : va_up (cp8 f g i) i (f i) = cp8 f g (i + 1) := by
  funext j
  unfold cp8 va_up
  by_cases h : j = i
  · subst h; rw [if_pos rfl, if_pos (Nat.lt_succ_self _)]
  · rw [if_neg h]
    show (if j < i then f j else g j) = _
    by_cases h2 : j < i
    · rw [if_pos h2, if_pos (by omega)]
    · rw [if_neg h2, if_neg (by omega)]
/-- over(a, b): the cells of a into b, at any two places of a world -/
theorem c5_over (l : Launch) (E : En) (ws : va_W) (a b q0 q1 : Nat) (f g : Nat → Int32) (h0 : ws[q0]? = some (a, .inl (E.2 0, 8, .inl f))) (h1 : ws[q1]? = some (b, .inl (E.2 0, 8, .inl g))) (hne : q1 ≠ q0) :
    CtV l E yX5_over cX5_over 3 0 0 0 [.ref a, .ref b] ws (fun (u : Unit) => True) (fun (u : Unit) => ws.set q1 (b, .inl (E.2 0, 8, .inl (cp8 f g 8)))) := by
  refine CtV.of (by decide +kernel) (Nat.le_of_ble_eq_true rfl) ?_
  intro pR eR sR mR aR bR tR cR AR ls QR hxR hbR hmlR hts hown hlk hnm hA hK hI hl hret
  have hl : lv_has ls 3 [(0, .ref a), (1, .ref b)] := hl
  have hlen : q1 < ws.length := (List.getElem?_eq_some_iff.mp h1).1
  refine lv_iconst (v := 0) hxR hbR dX5_over_0 (by decide) ?_
  refine lv_istore_n (lv' := [(2, .int 0), (0, .ref a), (1, .ref b)]) hxR hbR dX5_over_1 rfl hl (by decide) rfl (fun ls hl => ?_)
  have lp_2 : ∀ (fu i : Nat) (gx : Nat → Int32), i ≤ 8 → gx = cp8 f g i → 8 - i < fu → ∀ (H : Heap) (locs : List Loc), wI E AR sR H locs (ws.set q1 (b, .inl (E.2 0, 8, .inl gx))) → ∀ ls : Array Slot, lv_has ls 3 [(0, .ref a), (1, .ref b), (2, .int (nI i))] → W pR l eR (rmF 0 0 0) sR mR aR bR tR cR H locs 0 0 QR (F0 mR 2 ls []) := by
    intro fu
    induction fu with
    | zero => intro i gx h1 h2 hfu; exact absurd hfu (Nat.not_lt_zero _)
    | succ fu ih =>
      intro i gx hi hg hfu H locs hI ls hl
      have e0 : (ws.set q1 (b, .inl (E.2 0, 8, .inl gx)))[q0]? = some (a, .inl (E.2 0, 8, .inl f)) := by rw [List.getElem?_set_ne hne]; exact h0
      have e1 : (ws.set q1 (b, .inl (E.2 0, 8, .inl gx)))[q1]? = some (b, .inl (E.2 0, 8, .inl gx)) := List.getElem?_set_self hlen
      refine lv_iload_n hxR hbR dX5_over_2 rfl (lv_at hl 2 rfl) ?_
      refine lv_aload_n hxR hbR dX5_over_3 rfl (lv_at hl 0 rfl) ?_
      refine r_alen (v := 8) hxR hbR hK hI q0 0 rfl e0 rfl dX5_over_4 ?_
      refine lv_icmp_ge (tgt := 20) hxR hbR dX5_over_5 (by decide) (fun c_5 => ?_) (fun c_5 => ?_)
      · have c_5 : 8 ≤ i := (n_le (a := 8) (b := i) (by omega) (by omega)).mp c_5
        have hI : wI E AR sR H locs (ws.set q1 (b, .inl (E.2 0, 8, .inl (cp8 f g 8)))) := by rw [show (8 : Nat) = i by omega, ← hg]; rw [show i = (8 : Nat) by omega]; exact hI
        exact hret () _ _ _ _ _ _ dX5_over_20 hI trivial (Nat.le_of_ble_eq_true rfl) (Nat.le_of_ble_eq_true rfl)
      · have c_5 : i < 8 := Nat.lt_of_not_le (fun zz => c_5 ((n_le (a := 8) (b := i) (by omega) (by omega)).mpr zz))
        refine lv_aload_n hxR hbR dX5_over_8 rfl (lv_at hl 1 rfl) ?_
        refine lv_iload_n hxR hbR dX5_over_9 rfl (lv_at hl 2 rfl) ?_
        refine lv_aload_n hxR hbR dX5_over_10 rfl (lv_at hl 0 rfl) ?_
        refine lv_iload_n hxR hbR dX5_over_11 rfl (lv_at hl 2 rfl) ?_
        refine r_iald hxR hbR hK hI q0 (n := 8) (J := i) (f := f) (v := f i) e0 c_5 (by decide) rfl dX5_over_12 ?_
        refine r_iast (ws1 := ws.set q1 (b, .inl (E.2 0, 8, .inl (va_up gx i (f i))))) hxR hbR hK hI q1 (n := 8) (J := i) (f := gx) e1 c_5 (by decide) (List.set_set ..) dX5_over_13 (fun H locs hI => ?_)
        refine lv_iinc (v := nI (i + 1)) (lv' := [(2, .int (nI (i + 1))), (0, .ref a), (1, .ref b)]) hxR hbR dX5_over_14 hl (k := 2) rfl (show nI i + 1 = nI (i + 1) from nI_add _ 1) (by decide) rfl (fun ls hl => ?_)
        refine lv_goto (tgt := 2) hxR hbR dX5_over_17 (by decide) ?_
        exact ih (i + 1) _ (by omega) (by rw [hg, cp8_s]) (by omega) _ _ hI _ (lv_sub hl [1, 2, 0] rfl)
  have hI0 : wI E AR sR sR.heap [] (ws.set q1 (b, .inl (E.2 0, 8, .inl g))) := by
    have e : ws.set q1 (b, .inl (E.2 0, 8, .inl g)) = ws := by
      obtain ⟨hh, e⟩ := List.getElem?_eq_some_iff.mp h1
      rw [← e]; exact List.set_getElem_self hh
    rw [e]; exact hI
  exact lp_2 _ 0 g (by omega) (cp8_0 f g).symm (Nat.lt_succ_self _) _ _ hI0 _ (lv_sub hl [1, 2, 0] rfl)
theorem wI_comm {E : En} {A : Nat → Prop} {s : State} {H : Heap} {locs : List Loc} {a b : va_W} (hI : wI E A s H locs (a ++ b)) : wI E A s H locs (b ++ a) := by
  have hp : (a ++ b).Perm (b ++ a) := List.perm_append_comm
  refine ⟨va_P_iff.mpr fun q hq => va_P_iff.mp hI.1 q (hp.mem_iff.mpr hq), va_D_iff.mpr ⟨?_, fun q hq => (va_D_iff.mp hI.2.1).2 q (hp.mem_iff.mpr hq)⟩, hI.2.2⟩
  exact (hp.map _).nodup_iff.mp (va_D_iff.mp hI.2.1).1
