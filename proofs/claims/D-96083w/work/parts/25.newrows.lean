/-! new objects and arrays over wI -/
theorem wI_push {E : En} {A : Nat → Prop} {s : State} {H H1 : Heap} {locs : List Loc} {ws : va_W} (hA : ∀ q, s.heap.size ≤ q → A q) (hI : wI E A s H locs ws) (es : List va_E) (hz : H1.size = H.size + es.length) (ho : ∀ q, q < H.size → H1[q]? = H[q]?) (hn : ∀ i e, es[i]? = some e → va_at E.1.1 CL (H.size + i, e) H1) :
    wI E A s H1 locs (ws ++ es.zipIdx.map (fun q => (H.size + q.2, q.1))) := by
  have hP := va_P_iff.mp hI.1
  obtain ⟨n1, a1⟩ := va_D_iff.mp hI.2.1
  have hmem : ∀ x ∈ es.zipIdx.map (fun q => (H.size + q.2, q.1)), ∃ i, es[i]? = some x.2 ∧ x.1 = H.size + i := by
    intro x hx
    obtain ⟨y, hy, rfl⟩ := List.mem_map.mp hx
    exact ⟨y.2, List.mem_zipIdx_iff_getElem?.mp hy, rfl⟩
  refine ⟨va_P_iff.mpr fun x hx => ?_, va_D_iff.mpr ⟨?_, fun x hx => ?_⟩, ⟨Nat.le_trans hI.2.2.1 (by omega), fun q h1 h2 => (ho q (Nat.lt_of_lt_of_le h1 hI.2.2.1)).trans (hI.2.2.2.1 q h1 h2), hI.2.2.2.2⟩⟩
  · rcases List.mem_append.mp hx with h | h
    · exact (hP x h).kept (ho x.1 (hP x h).lt)
    · obtain ⟨i, hi, e⟩ := hmem x h
      have := hn i x.2 hi
      rw [← e] at this
      exact this
  · rw [List.map_append]
    refine List.nodup_append.mpr ⟨n1, ?_, ?_⟩
    · rw [List.map_map]
      refine List.pairwise_iff_getElem.mpr fun i j hi hj hij e => ?_
      simp only [List.getElem_map, List.getElem_zipIdx, Function.comp] at e
      omega
    · intro u hu v hv e
      obtain ⟨x, hx, rfl⟩ := List.mem_map.mp hu
      obtain ⟨y, hy, rfl⟩ := List.mem_map.mp hv
      obtain ⟨i, -, e2⟩ := hmem y hy
      have := (hP x hx).lt
      omega
  · rcases List.mem_append.mp hx with h | h
    · exact a1 x h
    · obtain ⟨i, -, e⟩ := hmem x h
      exact hA _ (by rw [e]; exact Nat.le_trans hI.2.2.1 (Nat.le_add_right _ _))
theorem outer_arrV (c : ClassId) (N h0 : Nat) : ∀ i, Jvm.Free.Multi.outerC c N h0 i = arrV c N (fun j => if j < i then .ref (h0 + 1 + j) else .null)
  | 0 => by
    rw [Jvm.Free.Multi.outerC, arrV_new]
    exact arrV_ext (fun j _ => by rw [if_neg (Nat.not_lt_zero _)])
  | i + 1 => by
    rw [Jvm.Free.Multi.outerC, outer_arrV c N h0 i, arrV_store]
    refine arrV_ext (fun j _ => ?_)
    unfold updV
    by_cases h : j = i
    · subst h; rw [if_pos rfl, if_pos (Nat.lt_succ_self _)]
    · rw [if_neg h]
      show (if j < i then Value.ref (h0 + 1 + j) else .null) = _
      by_cases h2 : j < i
      · rw [if_pos h2, if_pos (by omega)]
      · rw [if_neg h2, if_neg (by omega)]
section NR
variable {p : Program} {l : Launch} {e : Env} {R : Room} {s : State} {m : MethodId} {args : Array Value} {below : List Frame} {meth : Method} {c : Code} {H : Heap} {locs : List Loc} {cells slots : Nat} {Q : State → Prop} {cc : ByteArray} {pc : Nat} {ls : Array Slot} {rest : List Value} {E : En} {A : Nat → Prop} {ws ws1 : va_W} {a : Nat}
/-- newarray of a primitive type -/
theorem r_newa (hexec : p.tables.exec = Jvm.exec) (hb : c.code = cc) (hts : ∀ w ∈ lw_all, w.before args s = true) (hA : ∀ q, s.heap.size ≤ q → A q) (hK : KX E A s) (hI : wI E A s H locs ws) {atype : ArrayType} {ty : FieldType} (hty : newarray.typeOf atype = ty) (harr : Cond.arrayClass ty ∈ lw_all) (t0 : Nat) {cA : ClassId} (ht : (TY E)[t0]? = some (cA, ty)) (hRA : va_RA s cA ty → s.vm.findClass ("[" ++ ty.toString) = some cA)
    {n : Nat} {a0 : vp_A} (ha : ∀ cA : ClassId, vp_cell cA a0 = arrV cA n (fun _ => defaultValue ty)) (hn : n < 2 ^ 31) (hbytes : n * componentBytes ty ≤ 536870912) (hcells : cells + 1 ≤ R.cells) (hslots : slots + n ≤ R.slots) (hdg : decode cc pc = .ok (.newarray atype, 2))
    (kk : ∀ (q : Nat) (H1 : Heap), wI E A s H1 locs (ws ++ [(q, .inl (cA, a0))]) → W p l e R s m args below meth c H1 locs (cells + 1) (slots + n) Q (F0 m (pc + 2) ls (.ref q :: rest))) : W p l e R s m args below meth c H locs cells slots Q (F0 m pc ls (.int (nI n) :: rest)) := by
  subst hty
  refine va_newaK hexec hb (hts _ harr) rfl hdg rfl (nI_pos hn) (nI_clamp hn) hbytes hcells hslots rfl fun H1 cA' e1 z1 o1 hAr hNm => ?_
  have e2 : cA' = cA := Option.some.inj (hNm.symm.trans (hRA (hK.1.2 t0 _ ht).2))
  subst e2
  refine kk H.size H1 (wI_push hA hI [.inl (cA', a0)] (by rw [z1]; rfl) o1 (fun i e hi => ?_))
  have hz : i < 1 := (List.getElem?_eq_some_iff.mp hi).1
  rw [show i = 0 by omega] at hi ⊢
  cases hi
  show H1[H.size + 0]? = some (vp_cell _ _)
  rw [ha]
  exact e1
/-- multianewarray of two dimensions -/
theorem r_multi (hexec : p.tables.exec = Jvm.exec) (hb : c.code = cc) {own : String} {index : Nat} {ty : FieldType} (hts : ∀ w ∈ lw_all, w.before args s = true) (hown : s.vm.findClass own = some m.cls) (hA : ∀ q, s.heap.size ≤ q → A q) (hK : KX E A s) (hI : wI E A s H locs ws) (hlink : Cond.classLink own index ("[" ++ (FieldType.array ty).toString) ∈ lw_all) (hov : .arrayOver (.array ty) ∈ nW) (harr : Cond.arrayClass ty ∈ lw_all)
    (t0 t1 : Nat) {cO cI : ClassId} (ht0 : (TY E)[t0]? = some (cO, .array ty)) (ht1 : (TY E)[t1]? = some (cI, ty)) (hR1 : va_RA s cI ty → s.vm.findClass ("[" ++ ty.toString) = some cI) (hnm : (FieldType.array ty).toString = "[" ++ ty.toString)
    {n k : Nat} {a0 : vp_A} (ha : vp_cell cI a0 = arrV cI k (fun _ => defaultValue ty)) (hn : n < 2 ^ 31) (hk : k < 2 ^ 31) (hb1 : n * 4 ≤ 536870912) (hb2 : k * componentBytes ty ≤ 536870912) (hb3 : k ≤ 536870912) (hdf : fits ty (defaultValue ty) = true) (hdd : (defaultValue ty).isDefault = true)
    (hcells : cells + (1 + n) ≤ R.cells) (hslots : slots + (n + n * k) ≤ R.slots) (hdg : decode cc pc = .ok (.multianewarray index 2, 4))
    (kk : ∀ (q : Nat) (H1 : Heap), wI E A s H1 locs (ws ++ ((.inl (cO, n, .inr (.inr (.inr (.inr fun j => if j < n then some (q + 1 + j) else none))))) :: List.replicate n (Sum.inl (cI, a0))).zipIdx.map (fun x => (q + x.2, x.1))) → W p l e R s m args below meth c H1 locs (cells + 1 + n) (slots + n + n * k) Q (F0 m (pc + 4) ls (.ref q :: rest))) : W p l e R s m args below meth c H locs cells slots Q (F0 m pc ls (.int (nI k) :: .int (nI n) :: rest)) := by
  intro T hT X
  have en : (nI n).toNatClampNeg = n := nI_clamp hn
  have ek : (nI k).toNatClampNeg = k := nI_clamp hk
  obtain ⟨vm₁, cA, comp, hW, hfA, hfC, -, -, X1, st⟩ := X.multianewarray2F hexec hown (hts _ hlink) (hK.2.1 _ hov) (hts _ harr) (g := F0 m pc ls (.int (nI k) :: .int (nI n) :: rest)) rfl (by rw [hb]; exact hdg) (n := nI n) (k := nI k) (rest := rest) rfl (nI_pos hn) (nI_pos hk)
    (by rw [en]; exact hb1) (by rw [ek]; exact hb2) (by rw [ek]; exact hb3) hdf hdd (by rw [en]; exact hcells) (by rw [en, ek]; exact hslots)
  rw [en, ek] at X1 st
  have e1 : cA = cO := Option.some.inj (hfA.symm.trans (hK.1.2 t0 _ ht0).2)
  have e2 : comp = cI := by
    rw [hnm] at hfC
    exact Option.some.inj (hfC.symm.trans (hR1 (hK.1.2 t1 _ ht1).2))
  subst e1
  subst e2
  have hsz : (T.setVm vm₁).heap.size = H.size := by rw [← hT]; rfl
  obtain ⟨f1, f2, -, -⟩ := Jvm.Free.Multi.fill_facts (T.setVm vm₁) cA comp n k (defaultValue ty) n
  have hw : wI E A s (Jvm.Free.Multi.fill (T.setVm vm₁) cA comp n k (defaultValue ty) n).heap locs (ws ++ ((.inl (cA, n, .inr (.inr (.inr (.inr fun j => if j < n then some (H.size + 1 + j) else none))))) :: List.replicate n (Sum.inl (comp, a0))).zipIdx.map (fun x => (H.size + x.2, x.1))) := by
    refine wI_push hA hI _ (by rw [f1, hsz, List.length_cons, List.length_replicate]; omega) (fun q hq => ?_) (fun i x hi => ?_)
    · rw [Jvm.Free.Multi.fill_old (T.setVm vm₁) cA comp n k (defaultValue ty) (by rw [hsz]; exact hq), ← hT]
      rfl
    · match i, hi with
      | 0, hi =>
        cases hi
        show (Jvm.Free.Multi.fill (T.setVm vm₁) cA comp n k (defaultValue ty) n).heap[H.size]? = some (vp_cell _ _)
        rw [← hsz, f2, outer_arrV, vp_cell_q]
        refine congrArg some (arrV_ext (fun j hj => ?_))
        rw [if_pos hj]
        show _ = va_rf (if j < n then some _ else none)
        rw [if_pos hj]
        rfl
      | i + 1, hi =>
        rw [List.getElem?_cons_succ] at hi
        have hin : i < n := by
          have := (List.getElem?_eq_some_iff.mp hi).1
          rw [List.length_replicate] at this
          exact this
        rw [List.getElem?_replicate, if_pos hin] at hi
        cases hi
        show (Jvm.Free.Multi.fill (T.setVm vm₁) cA comp n k (defaultValue ty) n).heap[H.size + (i + 1)]? = some (vp_cell _ _)
        rw [ha, ← hsz, show (T.setVm vm₁).heap.size + (i + 1) = (T.setVm vm₁).heap.size + 1 + i by omega, Jvm.Free.Multi.fill_inner (T.setVm vm₁) cA comp n k (defaultValue ty) n i hin]
        exact congrArg some (arrV_new _ _ _)
  obtain ⟨t, a1, b1⟩ := kk H.size _ hw _ rfl X1
  refine ⟨t, st t ?_, b1⟩
  rw [hT]
  exact a1
/-- new: an object of class C -/
theorem r_new (hexec : p.tables.exec = Jvm.exec) (hb : c.code = cc) {own C : String} {T : u_T} {N ci index : Nat} {ty0 : Nat → FieldType} (hts : ∀ w ∈ lw_all, w.before args s = true) (hown : s.vm.findClass own = some m.cls) (hA : ∀ q, s.heap.size ≤ q → A q) (hK : KX E A s) (hI : wI E A s H locs ws) (ok : clsOk C T N ty0) (hc : CL[ci]? = some (C, T, N)) (hcl : Cond.classLink own index C ∈ lw_all) (hinst : Cond.instantiable C N ∈ lw_all) (hini : Cond.initialized C ∈ lw_all)
    {fs : List Value} (hfs : ∀ j, j < N → defaultValue (ty0 j) = vp_V fs j) (hcells : cells + 1 ≤ R.cells) (hslots : slots + N ≤ R.slots) (hdg : decode cc pc = .ok (.new index, 3))
    (kk : ∀ (q : Nat) (H1 : Heap), wI E A s H1 locs (ws ++ [(q, .inr (ci, fs))]) → W p l e R s m args below meth c H1 locs (cells + 1) (slots + N) Q (F0 m (pc + 3) ls (.ref q :: rest))) : W p l e R s m args below meth c H locs cells slots Q (F0 m pc ls rest) :=
  va_new hexec hb hts ok.1 ty0 ok.2.1 hown (hts _ hcl) (hts _ hinst) (hts _ hini) hK.1 hI.1 hI.2.1 hI.2.2 hA hc hfs hcells hslots hdg (fun q H1 h1 h2 h3 => kk q H1 ⟨h1, h2, h3⟩)
end NR
