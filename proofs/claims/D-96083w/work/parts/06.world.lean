/-! THE LAYER: one environment of class numbers for all methods, worlds as lists cut by their shape a ++ (w ++ c), contracts with an answer -/
/-- class numbers; the addresses of the String constants and of their bytes; the numbers of the array classes -/
abbrev En : Type := (va_G × (Nat → Nat) × (Nat → Nat)) × (Nat → ClassId)
def CL : List vw_C := [(RX0, TX0, 11), (RX1, TX1, 10), (RX2, TX2, 8), (RX3, TX3, 7), (RX4, TX4, 1), (RX5, TX5, 45), (RX6, TX6, 7), (RX8, TX8, 1), (RX9, TX9, 1), (RX10, TX10, 1), (RX11, TX11, 1), (RX12, TX12, 1), (RX13, TX13, 7), (RX14, TX14, 7), (RX15, TX15, 6), (RJ4, TJ4, 4), (RJ13, TJ13, 4)]
def TY (E : En) : List (ClassId × FieldType) := [(E.2 0, .int), (E.2 1, .long), (E.2 2, .array .int), (E.2 3, .array .long), (E.2 4, .byte), (E.2 5, .short), (E.2 6, .boolean), (E.2 7, .object RX4)]
/-- words of the tables that hold all through a run, beside lw_all -/
def nW : List Cond := [.arrayOver (.array .int), .arrayOver (.array .long), .arrayOver (.object RX4),
  .methodLinkNest RX0 28 yX1_init RX0, .methodLinkNest RX0 38 yX2_init RX0, .methodLinkNest RX0 45 yX3_init RX0, .methodLinkNest RX0 69 yX4_init RX0,
  .methodLinkNest RX1 58 yX0_isIn RX0, .methodLinkNest RX1 66 yX0_has RX0, .methodLinkNest RX13 95 yX0_has RX0, .methodLinkNest RX15 35 yX0_has RX0,
  .methodLinkNest RX15 61 yX0_hasGroup RX0, .methodLinkNest RX2 69 yX0_has RX0, .methodLinkNest RX3 60 yX0_has RX0,
  .fieldLinkNest RX15 25 RX0 "now" "LThreeStrangers$Town;" RX0, .fieldLinkNest RX15 50 RX0 "tried" "LThreeStrangers$Town;" RX0,
  .castable RX8 RX7, .castable RX9 RX7, .castable RX10 RX7, .castable RX11 RX7, .castable RX12 RX7, .castable RX10 RX8, .castable RX11 RX9, .castable RX12 RX9]
theorem over_warmA {ty : FieldType} {s U : State} (hW : s.WarmedH U.vm) (h : va_Nw (.arrayOver (.array ty)) s) : va_Nw (.arrayOver (.array ty)) U := over_moved hW.alike h
theorem over_warmO {C : String} {s U : State} (hW : s.WarmedH U.vm) (h : va_Nw (.arrayOver (.object C)) s) : va_Nw (.arrayOver (.object C)) U := va_AO.moved hW.alike h
theorem nW_warm {s U : State} (hW : s.WarmedH U.vm) : ∀ w ∈ nW, va_Nw w s → va_Nw w U := by
  simp only [nW, List.forall_mem_cons, List.not_mem_nil, false_implies, implies_true, and_true]
  refine ⟨over_warmA hW, over_warmA hW, over_warmO hW, ?_⟩
  refine ⟨va_Nw.warmM hW, va_Nw.warmM hW, va_Nw.warmM hW, va_Nw.warmM hW, va_Nw.warmM hW, va_Nw.warmM hW, va_Nw.warmM hW, va_Nw.warmM hW, va_Nw.warmM hW, va_Nw.warmM hW, va_Nw.warmM hW, ?_⟩
  exact ⟨va_Nw.warmF hW, va_Nw.warmF hW, va_Nw.warmC hW, va_Nw.warmC hW, va_Nw.warmC hW, va_Nw.warmC hW, va_Nw.warmC hW, va_Nw.warmC hW, va_Nw.warmC hW, va_Nw.warmC hW⟩
theorem nW_same {s U : State} (hv : s.vm = U.vm) : ∀ w ∈ nW, va_Nw w s → va_Nw w U := by
  have hal : s.vm.Alike U.vm := by rw [hv]; exact Vm.Alike.refl _
  simp only [nW, List.forall_mem_cons, List.not_mem_nil, false_implies, implies_true, and_true]
  refine ⟨fun h => over_moved hal h, fun h => over_moved hal h, fun h => va_AO.moved hal h, ?_⟩
  refine ⟨va_Nw.same rfl hv, va_Nw.same rfl hv, va_Nw.same rfl hv, va_Nw.same rfl hv, va_Nw.same rfl hv, va_Nw.same rfl hv, va_Nw.same rfl hv, va_Nw.same rfl hv, va_Nw.same rfl hv, va_Nw.same rfl hv, va_Nw.same rfl hv, ?_⟩
  exact ⟨va_Nw.same rfl hv, va_Nw.same rfl hv, va_Nw.same rfl hv, va_Nw.same rfl hv, va_Nw.same rfl hv, va_Nw.same rfl hv, va_Nw.same rfl hv, va_Nw.same rfl hv, va_Nw.same rfl hv, va_Nw.same rfl hv⟩
def sLen : List Nat := [1, 6, 4, 7, 5, 6, 3, 5]
def sByt : List (List Int32) := [[59], [112, 101, 114, 115, 111, 110], [107, 110, 111, 119], [115, 116, 114, 97, 110, 103, 101], [115, 101, 97, 116, 115], [109, 101, 109, 111, 114, 121], [109, 101, 116], [115, 105, 110, 99, 101]]
def sHash : List Int32 := [59, -991716523, 3296907, -1881997444, 109310734, -1077756671, 107996, 109441850]
def sRefs : List (String × Nat × String × Nat) := [("ThreeStrangers$Reader", 57, ";", 0), ("ThreeStrangers$Reader", 105, "person", 1), ("ThreeStrangers$Reader", 107, "know", 2), ("ThreeStrangers$Reader", 109, "strange", 3), ("ThreeStrangers$Reader", 111, "seats", 4), ("ThreeStrangers$Reader", 113, "memory", 5), ("ThreeStrangers$Reader", 115, "met", 6), ("ThreeStrangers$Reader", 122, "since", 7), ("ThreeStrangersModel", 216, "person", 1), ("ThreeStrangersModel", 218, "know", 2), ("ThreeStrangersModel", 207, "since", 7), ("ThreeStrangersModel", 223, "strange", 3), ("ThreeStrangersModel", 225, "seats", 4), ("ThreeStrangersModel", 226, "memory", 5), ("ThreeStrangersModel", 227, "met", 6)]
/-- all that was said of the start, of a state warmed since -/
def XW (U : State) : Prop := ∃ (U0 : State) (a0 : Array Value), (∀ w ∈ tables_1, w.before a0 U0 = true) ∧ narrow_1.before a0 U0 = true ∧ modulesRight_1 U0 = true ∧ U0.WarmedH U.vm
theorem XW.warm {s U : State} (hW : s.WarmedH U.vm) (h : XW s) : XW U := by
  obtain ⟨U0, a0, h1, h2, hm, h3⟩ := h
  exact ⟨U0, a0, h1, h2, hm, State.WarmedH.trans h3 hW⟩
theorem XW.same {s U : State} (hv : s.vm = U.vm) (h : XW s) : XW U := by
  obtain ⟨U0, a0, h1, h2, hm, h3⟩ := h
  exact ⟨U0, a0, h1, h2, hm, hv ▸ h3⟩
/-- what stands outside every world: String constants, statics that nobody writes -/
def GS (E : En) (A : Nat → Prop) (U : State) (H : Heap) : Prop := vk_S 8 sLen sByt E.1.2.1 E.1.2.2 A U H ∧ (∀ q ∈ sRefs, vk_R q.1 q.2.1 q.2.2.1 (E.1.2.1 q.2.2.2) U) ∧ va_Z "java/lang/String" "COMPACT_STRINGS" "Z" (.int 1) A U H ∧ vx_Zq Bundle.tN "UNASSIGNED_STACK" Bundle.steD A U H ∧ vx_Zq Bundle.tN "SUPPRESSED_SENTINEL" Bundle.listD A U H ∧ (∀ i : Nat, i < 8 → va_OF "java/lang/String" "hash" "I" (.int (sHash.getD i 0)) (E.1.2.1 i) A U H) ∧ va_Zq "jdk/internal/util/Preconditions" "SIOOBE_FORMATTER" "Ljava/util/function/BiFunction;" A U H ∧ XW U
theorem GS.kept {E : En} {A : Nat → Prop} {U : State} {H H1 : Heap} (h : GS E A U H) (hq : ∀ a : Nat, a < H.size → ¬ A a → H1[a]? = H[a]?) : GS E A U H1 := ⟨h.1.kept hq, h.2.1, h.2.2.1.kept hq, h.2.2.2.1.kept hq, h.2.2.2.2.1.kept hq, fun i hi => (h.2.2.2.2.2.1 i hi).kept hq, va_Zq.kept h.2.2.2.2.2.2.1 hq, h.2.2.2.2.2.2.2⟩
theorem GS.narrow {E : En} {A B : Nat → Prop} {U : State} {H : Heap} (h : GS E A U H) (hAB : ∀ q, B q → A q) : GS E B U H := ⟨h.1.narrow hAB, h.2.1, h.2.2.1.narrow hAB, h.2.2.2.1.narrow hAB, h.2.2.2.2.1.narrow hAB, fun i hi => (h.2.2.2.2.2.1 i hi).narrow hAB, va_Zq.narrow h.2.2.2.2.2.2.1 hAB, h.2.2.2.2.2.2.2⟩
theorem GS.warm {E : En} {A : Nat → Prop} {s U : State} {H : Heap} (hW : s.WarmedH U.vm) (h : GS E A s H) : GS E A U H := ⟨h.1.moved hW.alike, fun q hq => vk_R.warm hW (h.2.1 q hq), h.2.2.1.moved hW.alike, h.2.2.2.1.moved hW.alike, h.2.2.2.2.1.moved hW.alike, fun i hi => va_OF.moved hW.alike (h.2.2.2.2.2.1 i hi), va_Zq.moved hW.alike h.2.2.2.2.2.2.1, h.2.2.2.2.2.2.2.warm hW⟩
theorem GS.same {E : En} {A : Nat → Prop} {s U : State} {H : Heap} (hv : s.vm = U.vm) (h : GS E A s H) : GS E A U H := by
  have hal : s.vm.Alike U.vm := by rw [hv]; exact Vm.Alike.refl _
  exact ⟨h.1.moved hal, fun q hq => vk_R.same hv.symm (h.2.1 q hq), h.2.2.1.moved hal, h.2.2.2.1.moved hal, h.2.2.2.2.1.moved hal, fun i hi => va_OF.moved hal (h.2.2.2.2.2.1 i hi), va_Zq.moved hal h.2.2.2.2.2.2.1, h.2.2.2.2.2.2.2.same hv⟩
def KX (E : En) (A : Nat → Prop) (U : State) : Prop := va_K E.1.1 CL (TY E) U ∧ (∀ w ∈ nW, va_Nw w U) ∧ GS E A U U.heap
theorem KX.call {E : En} {A B : Nat → Prop} {s U : State} {H : Heap} {locs : List Loc} (hW : s.WarmedH U.vm) (hU : U.heap = H) (hS : va_S A s.heap H locs) (hAB : ∀ q, B q → A q) (h : KX E A s) : KX E B U :=
  ⟨va_K.moved hW.alike h.1, fun w hw => nW_warm hW w hw (h.2.1 w hw), by rw [hU]; exact ((h.2.2.kept hS.2.1).narrow hAB).warm hW⟩
theorem KX.same {E : En} {A : Nat → Prop} {s U : State} (hv : s.vm = U.vm) (hh : s.heap = U.heap) (h : KX E A s) : KX E A U := ⟨va_K.moved (by rw [hv]; exact Vm.Alike.refl _) h.1, fun w hw => nW_same hv w hw (h.2.1 w hw), by rw [← hh]; exact h.2.2.same hv⟩
def mPre (E : En) (sz : Nat) (ws : va_W) (U : State) : Prop := U.heap.size = sz ∧ va_P E.1.1 CL ws U.heap ∧ KX E (va_A ws sz) U ∧ va_D (fun _ => True) ws
def wB (E : En) (A : Nat → Prop) (ws : va_W) (t : State) : Prop := va_P E.1.1 CL ws t.heap ∧ va_D A ws
def wI (E : En) (A : Nat → Prop) (s : State) (H : Heap) (locs : List Loc) (ws : va_W) : Prop := va_P E.1.1 CL ws H ∧ va_D A ws ∧ va_S A s.heap H locs
abbrev rmF (F mc ms : Nat) : Room := { frames := F, cells := mc, slots := ms, locals := 100 * F }
/-! worlds by membership -/
theorem va_P_iff {D : va_G} {cl : List vw_C} {ws : va_W} {H : Heap} : va_P D cl ws H ↔ ∀ q ∈ ws, va_at D cl q H :=
  ⟨fun h q hq => by obtain ⟨k, hk⟩ := List.getElem?_of_mem hq; exact h k q hk, fun h k q hk => h q (List.mem_of_getElem? hk)⟩
theorem va_D_iff {A : Nat → Prop} {ws : va_W} : va_D A ws ↔ (ws.map (fun q => q.1)).Nodup ∧ ∀ q ∈ ws, A q.1 := by
  constructor
  · intro h
    refine ⟨?_, fun q hq => by obtain ⟨k, hk⟩ := List.getElem?_of_mem hq; exact h.2 k q hk⟩
    refine List.pairwise_iff_getElem.mpr fun i j hi hj hij e => ?_
    rw [List.getElem_map, List.getElem_map] at e
    rw [List.length_map] at hi hj
    have := h.1 i j _ _ (List.getElem?_eq_getElem hi) (List.getElem?_eq_getElem hj) e
    omega
  · intro ⟨h1, h2⟩
    refine ⟨fun i j p q hi hj e => ?_, fun k q hk => h2 q (List.mem_of_getElem? hk)⟩
    obtain ⟨li, ei⟩ := List.getElem?_eq_some_iff.mp hi
    obtain ⟨lj, ej⟩ := List.getElem?_eq_some_iff.mp hj
    rcases Nat.lt_trichotomy i j with h | h | h
    · exact absurd (by rw [List.getElem_map, List.getElem_map, ei, ej]; exact e) (List.pairwise_iff_getElem.mp h1 i j (by rw [List.length_map]; exact li) (by rw [List.length_map]; exact lj) h)
    · exact h
    · exact absurd (by rw [List.getElem_map, List.getElem_map, ei, ej]; exact e.symm) (List.pairwise_iff_getElem.mp h1 j i (by rw [List.length_map]; exact lj) (by rw [List.length_map]; exact li) h)
theorem va_A_iff {ws : va_W} {sz q : Nat} : va_A ws sz q ↔ (∃ x ∈ ws, x.1 = q) ∨ sz ≤ q := by
  constructor
  · rintro (⟨k, e, h⟩ | h)
    · exact Or.inl ⟨_, List.mem_of_getElem? h, rfl⟩
    · exact Or.inr h
  · rintro (⟨x, h, rfl⟩ | h)
    · obtain ⟨k, hk⟩ := List.getElem?_of_mem h
      exact Or.inl ⟨k, x.2, hk⟩
    · exact Or.inr h
/-- a place in a world: f w is w with something before and behind it -/
def isCtx (f : va_W → va_W) : Prop := ∃ a c, ∀ w, f w = a ++ (w ++ c)
theorem isCtx.mk (a c : va_W) : isCtx (fun w => a ++ (w ++ c)) := ⟨a, c, fun _ => rfl⟩
theorem isCtx.id : isCtx (fun w => w) := ⟨[], [], fun w => by simp⟩
theorem isCtx.pre (a : va_W) : isCtx (fun w => a ++ w) := ⟨a, [], fun w => by simp⟩
theorem isCtx.suf (c : va_W) : isCtx (fun w => w ++ c) := ⟨[], c, fun w => by simp⟩
theorem cut_P {f : va_W → va_W} (hf : isCtx f) {D : va_G} {cl : List vw_C} {w : va_W} {H : Heap} (h : va_P D cl (f w) H) : va_P D cl w H := by
  obtain ⟨a, c, e⟩ := hf
  rw [e] at h
  exact va_P_iff.mpr fun q hq => va_P_iff.mp h q (List.mem_append_right _ (List.mem_append_left _ hq))
theorem cut_D {f : va_W → va_W} (hf : isCtx f) {A : Nat → Prop} {w : va_W} (h : va_D A (f w)) : va_D A w := by
  obtain ⟨a, c, e⟩ := hf
  rw [e] at h
  obtain ⟨h1, h2⟩ := va_D_iff.mp h
  refine va_D_iff.mpr ⟨?_, fun q hq => h2 q (List.mem_append_right _ (List.mem_append_left _ hq))⟩
  rw [List.map_append, List.map_append] at h1
  exact (List.nodup_append.mp (List.nodup_append.mp h1).2.1).1
theorem cut_A {f : va_W → va_W} (hf : isCtx f) {A : Nat → Prop} {w : va_W} {s : State} {H : Heap} {locs : List Loc} (hD : va_D A (f w)) (hS : va_S A s.heap H locs) (hA : ∀ q, s.heap.size ≤ q → A q) : ∀ q, va_A w H.size q → A q := by
  intro q h
  rcases va_A_iff.mp h with ⟨x, hx, rfl⟩ | h
  · exact (va_D_iff.mp (cut_D hf hD)).2 x hx
  · exact hA q (Nat.le_trans hS.1 h)
theorem join_PD {f : va_W → va_W} (hf : isCtx f) {A : Nat → Prop} {D : va_G} {cl : List vw_C} {w w1 : va_W} {H H1 : Heap} (hP : va_P D cl (f w) H) (hD : va_D A (f w)) (hF : ∀ q, va_A w H.size q → A q) (hk : ∀ q : Nat, q < H.size → ¬ va_A w H.size q → H1[q]? = H[q]?)
    (hP1 : va_P D cl w1 H1) (hD1 : va_D (va_A w H.size) w1) : va_P D cl (f w1) H1 ∧ va_D A (f w1) := by
  obtain ⟨a, c, e⟩ := hf
  rw [e] at hP hD ⊢
  have hP' := va_P_iff.mp hP
  obtain ⟨n1, a1⟩ := va_D_iff.mp hD
  obtain ⟨n2, a2⟩ := va_D_iff.mp hD1
  have hout : ∀ x, x ∈ a ∨ x ∈ c → x.1 < H.size ∧ ¬ va_A w H.size x.1 := by
    intro x hx
    have hm : x ∈ a ++ (w ++ c) := by
      rcases hx with h | h
      · exact List.mem_append_left _ h
      · exact List.mem_append_right _ (List.mem_append_right _ h)
    have hl := (hP' x hm).lt
    refine ⟨hl, fun h => ?_⟩
    rcases va_A_iff.mp h with ⟨y, hy, e2⟩ | h
    · rw [List.map_append, List.map_append] at n1
      obtain ⟨-, m2, m3⟩ := List.nodup_append.mp n1
      obtain ⟨-, -, m4⟩ := List.nodup_append.mp m2
      rcases hx with h | h
      · exact m3 x.1 (List.mem_map.mpr ⟨x, h, rfl⟩) y.1 (List.mem_append_left _ (List.mem_map.mpr ⟨y, hy, rfl⟩)) e2.symm
      · exact m4 y.1 (List.mem_map.mpr ⟨y, hy, rfl⟩) x.1 (List.mem_map.mpr ⟨x, h, rfl⟩) e2
    · omega
  constructor
  · refine va_P_iff.mpr fun x hx => ?_
    rcases List.mem_append.mp hx with h | h
    · exact (hP' x (List.mem_append_left _ h)).kept (hk x.1 (hout x (Or.inl h)).1 (hout x (Or.inl h)).2)
    · rcases List.mem_append.mp h with h | h
      · exact va_P_iff.mp hP1 x h
      · exact (hP' x (List.mem_append_right _ (List.mem_append_right _ h))).kept (hk x.1 (hout x (Or.inr h)).1 (hout x (Or.inr h)).2)
  · refine va_D_iff.mpr ⟨?_, fun x hx => ?_⟩
    · rw [List.map_append, List.map_append] at n1 ⊢
      obtain ⟨m1, m2, m3⟩ := List.nodup_append.mp n1
      obtain ⟨m5, m6, m4⟩ := List.nodup_append.mp m2
      refine List.nodup_append.mpr ⟨m1, List.nodup_append.mpr ⟨n2, m6, ?_⟩, ?_⟩
      · intro u hu v hv e3
        obtain ⟨x, hx, rfl⟩ := List.mem_map.mp hu
        obtain ⟨y, hy, rfl⟩ := List.mem_map.mp hv
        exact (hout y (Or.inr hy)).2 (e3 ▸ a2 x hx)
      · intro u hu v hv e3
        obtain ⟨x, hx, rfl⟩ := List.mem_map.mp hu
        rcases List.mem_append.mp hv with h | h
        · obtain ⟨y, hy, rfl⟩ := List.mem_map.mp h
          exact (hout x (Or.inl hx)).2 (e3 ▸ a2 y hy)
        · exact m3 x.1 (List.mem_map.mpr ⟨x, hx, rfl⟩) v (List.mem_append_right _ h) e3
    · rcases List.mem_append.mp hx with h | h
      · exact a1 x (List.mem_append_left _ h)
      · rcases List.mem_append.mp h with h | h
        · exact hF _ (a2 x h)
        · exact a1 x (List.mem_append_right _ (List.mem_append_right _ h))
