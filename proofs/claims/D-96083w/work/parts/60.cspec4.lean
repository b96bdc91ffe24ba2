/-! COACHMEN: a world of one cell; calls that reach an overriding method; super; an inherited field; what each is worth -/
def manW (E : En) (q kd : Nat) (a : Int32) : va_W := [(q, .inr (6 + kd, [.int a]))]
theorem manW_o {E : En} {q kd : Nat} {a : Int32} : (manW E q kd a)[0]? = some (q, .inr (6 + kd, [.int a])) := rfl
theorem manW_i0 {E : En} {q kd : Nat} {a x : Int32} : (manW E q kd a).set 0 (q, .inr (6 + kd, ([.int a] : List Value).set 0 (.int x))) = manW E q kd x := rfl
theorem kd_5 {P : Nat → Prop} {kd : Nat} (h1 : 1 ≤ kd) (h5 : kd ≤ 5) (p1 : P 1) (p2 : P 2) (p3 : P 3) (p4 : P 4) (p5 : P 5) : P kd := by
  have h : kd = 1 ∨ kd = 2 ∨ kd = 3 ∨ kd = 4 ∨ kd = 5 := by omega
  rcases h with e | e | e | e | e
  · rw [e]; exact p1
  · rw [e]; exact p2
  · rw [e]; exact p3
  · rw [e]; exact p4
  · rw [e]; exact p5
theorem lw_U {own : String} {idx : Nat} {C : String} {x y : MethodName} {b : ByteArray} {L : Nat} {r : Option FieldType} (h1 : Cond.methodLink own idx x ∈ lw_all) (h2 : Cond.sameMethod x.cls x.cls x.name x.desc ∈ lw_all) (h3 : Cond.instanceMethod ⟨x.cls, x.name, x.desc⟩ ∈ lw_all) (h4 : Cond.selects C x y ∈ lw_all) (h5 : Cond.instanceMethod y ∈ lw_all) (h6 : Cond.initialized y.cls ∈ lw_all) (h7 : Cond.code y b L r ∈ lw_all) : GoodIn lw_all (va_wsO own idx C x.cls x y (ws_ y b L r)) := by
  refine lw_app ?_ (lw_meth h7)
  intro w hw
  simp only [List.mem_cons, List.not_mem_nil, or_false] at hw
  rcases hw with e | e | e | e | e | e
  · rw [e]; exact h1
  · rw [e]; exact h2
  · rw [e]; exact h3
  · rw [e]; exact h4
  · rw [e]; exact h5
  · rw [e]; exact h6
theorem lw_SU {own : String} {idx : Nat} {y : MethodName} {b : ByteArray} {L : Nat} {r : Option FieldType} (h1 : Cond.methodLink own idx y ∈ lw_all) (h2 : Cond.sameMethod y.cls y.cls y.name y.desc ∈ lw_all) (h3 : Cond.superclass own y.cls ∈ lw_all) (h5 : Cond.instanceMethod y ∈ lw_all) (h6 : Cond.initialized y.cls ∈ lw_all) (h7 : Cond.code y b L r ∈ lw_all) : GoodIn lw_all (va_wsSU own idx y (ws_ y b L r)) := by
  refine lw_app ?_ (lw_meth h7)
  intro w hw
  simp only [List.mem_cons, List.not_mem_nil, or_false] at hw
  rcases hw with e | e | e | e | e
  · rw [e]; exact h1
  · rw [e]; exact h2
  · rw [e]; exact h3
  · rw [e]; exact h5
  · rw [e]; exact h6
section KU
variable {p : Program} {l : Launch} {e : Env} {F1 mc1 ms1 : Nat} {s : State} {m : MethodId} {args : Array Value} {below : List Frame} {meth : Method} {c : Code} {H : Heap} {locs : List Loc} {cells slots : Nat} {Q : State → Prop} {cc bytes : ByteArray} {pc nL nL1 index n : Nat} {ls : Array Slot} {rest : List Value} {E : En} {A : Nat → Prop} {wc : va_W} {own C : String} {x y : MethodName} {F mc ms : Nat} {As : List Value} {b : Nat} {S : Type}
theorem kUI {ret : FieldType} {post : Int32 → S → Prop} {ws1 : S → va_W} (f : va_W → va_W) (hexec : p.tables.exec = Jvm.exec) (hb : c.code = cc) (hml : c.maxLocals = nL1) (hts : ∀ w ∈ lw_all, w.before args s = true) (hown : s.vm.findClass own = some m.cls) (hK : KX E A s) (hA : ∀ q, s.heap.size ≤ q → A q) (hl : ls.size = nL1) (hf : isCtx f) (hI : wI E A s H locs (f wc))
    (hM : CtI l E y bytes nL ret F mc ms (.ref b :: As) wc post ws1) (hw : GoodIn lw_all (va_wsO own index C x.cls x y (ws_ y bytes nL (some ret)))) {b0 : ByteArray} {m0 : Nat} {r0 : Option FieldType} (h0 : Cond.code ⟨x.cls, x.name, x.desc⟩ b0 m0 r0 ∈ lw_all) (hd : x.cls ≠ "java/lang/invoke/MethodHandle" ∧ x.cls ≠ "java/lang/invoke/VarHandle" ∧ (parseMethodDescriptor x.desc).map (fun d => d.parameters.length) = some n) (q0 ci : Nat) {q : vw_C} {fs : List Value} (hc : CL[ci]? = some q) (hq : q.1 = C) (hrc : wc[q0]? = some (b, .inr (ci, fs))) (hn : As.length = n) (hF : F + 1 ≤ F1) (hL : nL ≤ 81) (hcs : cells + mc ≤ mc1 ∧ slots + ms ≤ ms1) (hroom : (rest.map fun v => v.category).sum ≤ 8) (hdg : decode cc pc = .ok (.invokevirtual index, 3))
    (kk : ∀ (r : Int32) (u : S) (H1 : Heap) (locs1 : List Loc), post r u → wI E A s H1 locs1 (f (ws1 u)) → H.size ≤ H1.size → W p l e (rmF F1 mc1 ms1) s m args below meth c H1 locs1 (cells + mc) (slots + ms) Q (F0 m (pc + 3) ls (.int r :: rest))) : W p l e (rmF F1 mc1 ms1) s m args below meth c H locs cells slots Q (F0 m pc ls (As.reverse ++ .ref b :: rest)) := by
  have hFc := cut_A hf hI.2.1 hI.2.2 hA
  refine va_calli (va_runU (As := As) (rest := rest) ⟨hexec, hb, hml, hown, hts⟩ (hM H.size) (va_cwO n hts hw rfl rfl rfl h0 hd ⟨hF, by show 8 + (nL + 11) + 100 * F ≤ 100 * F1; omega⟩) ⟨mPre_blind, by have h := va_recv hK.1 (cut_P hf hI.1) hc hrc; rw [hq] at h; exact h, mPre_at hf hA hK hI⟩ rfl hn hl rfl (lv_room hroom) hdg hcs) hI.2.2 (fun q _ h => hFc q h) hFc (fun r u t H1 locs1 ht hvm hp hB hz hk hS => ?_)
  obtain ⟨hB1, hB2⟩ := hB
  rw [ht] at hB1
  obtain ⟨j1, j2⟩ := join_PD hf hI.1 hI.2.1 hFc hk hB1 hB2
  exact kk r u H1 locs1 hp ⟨j1, j2, hS⟩ hz
theorem kSuI {ret : FieldType} {post : Int32 → S → Prop} {ws1 : S → va_W} (f : va_W → va_W) (hexec : p.tables.exec = Jvm.exec) (hb : c.code = cc) (hml : c.maxLocals = nL1) (hts : ∀ w ∈ lw_all, w.before args s = true) (hown : s.vm.findClass own = some m.cls) (hK : KX E A s) (hA : ∀ q, s.heap.size ≤ q → A q) (hl : ls.size = nL1) (hf : isCtx f) (hI : wI E A s H locs (f wc))
    (hM : CtI l E y bytes nL ret F mc ms (.ref b :: As) wc post ws1) (hw : GoodIn lw_all (va_wsSU own index y (ws_ y bytes nL (some ret)))) (hd : y.name ≠ "<init>" ∧ (parseMethodDescriptor y.desc).map (fun d => d.parameters.length) = some n) (q0 ci : Nat) {q : vw_C} {fs : List Value} (hc : CL[ci]? = some q) (hrc : wc[q0]? = some (b, .inr (ci, fs))) (hn : As.length = n) (hF : F + 1 ≤ F1) (hL : nL ≤ 81) (hcs : cells + mc ≤ mc1 ∧ slots + ms ≤ ms1) (hroom : (rest.map fun v => v.category).sum ≤ 8) (hdg : decode cc pc = .ok (.invokespecial index, 3))
    (kk : ∀ (r : Int32) (u : S) (H1 : Heap) (locs1 : List Loc), post r u → wI E A s H1 locs1 (f (ws1 u)) → H.size ≤ H1.size → W p l e (rmF F1 mc1 ms1) s m args below meth c H1 locs1 (cells + mc) (slots + ms) Q (F0 m (pc + 3) ls (.int r :: rest))) : W p l e (rmF F1 mc1 ms1) s m args below meth c H locs cells slots Q (F0 m pc ls (As.reverse ++ .ref b :: rest)) := by
  have hFc := cut_A hf hI.2.1 hI.2.2 hA
  refine va_calli (va_runSU (As := As) (rest := rest) (hK.1.1 ci q hc).2 ⟨hexec, hb, hml, hown, hts⟩ (hM H.size) (va_cwSU n hts hw rfl rfl rfl hd ⟨hF, by show 8 + (nL + 11) + 100 * F ≤ 100 * F1; omega⟩) ⟨mPre_blind, va_recv hK.1 (cut_P hf hI.1) hc hrc, mPre_at hf hA hK hI⟩ rfl hn hl rfl (lv_room hroom) hdg hcs) hI.2.2 (fun q _ h => hFc q h) hFc (fun r u t H1 locs1 ht hvm hp hB hz hk hS => ?_)
  obtain ⟨hB1, hB2⟩ := hB
  rw [ht] at hB1
  obtain ⟨j1, j2⟩ := join_PD hf hI.1 hI.2.1 hFc hk hB1 hB2
  exact kk r u H1 locs1 hp ⟨j1, j2, hS⟩ hz
end KU
section RWS
variable {p : Program} {l : Launch} {e : Env} {R : Room} {s : State} {m : MethodId} {args : Array Value} {below : List Frame} {meth : Method} {c : Code} {H : Heap} {locs : List Loc} {cells slots : Nat} {Q : State → Prop} {cc : ByteArray} {pc : Nat} {ls : Array Slot} {rest : List Value} {E : En} {A : Nat → Prop} {ws ws1 : va_W} {a : Nat}
theorem r_getS (hexec : p.tables.exec = Jvm.exec) (hb : c.code = cc) {own ref C : String} {T : u_T} {N ci index : Nat} {ty0 : Nat → FieldType} (hts : ∀ w ∈ lw_all, w.before args s = true) (hown : s.vm.findClass own = some m.cls) (hK : KX E A s) (hI : wI E A s H locs ws) (ok : clsOk C T N ty0) (hc : CL[ci]? = some (C, T, N)) (q0 : Nat) {fs : List Value} (he : ws[q0]? = some (a, .inr (ci, fs))) (k : Nat) (hk : k < N) (hlink : Cond.fieldLink own index ref (T k).2.1 (T k).2.2.1 ∈ lw_all) (hsame : Cond.sameField ref (T k).1 (T k).2.1 (T k).2.2.1 ∈ lw_all) {v : Value} (hv : fs[k]? = some v) (hdg : decode cc pc = .ok (.getfield index, 3))
    (kk : W p l e R s m args below meth c H locs cells slots Q (F0 m (pc + 3) ls (v :: rest))) : W p l e R s m args below meth c H locs cells slots Q (F0 m pc ls (.ref a :: rest)) :=
  va_get hexec hb hts ok.1 hown hK.1 hI.1 q0 he hc k hk (hts _ hlink) (fun x h => u_same (hts _ hsame) x h) hv hdg kk
theorem r_manput (hexec : p.tables.exec = Jvm.exec) (hb : c.code = cc) (hts : ∀ w ∈ lw_all, w.before args s = true) (hown : s.vm.findClass RX7 = some m.cls) (hK : KX E A s) {q kd : Nat} {x v : Int32} (h1 : 1 ≤ kd) (h5 : kd ≤ 5) (hI : wI E A s H locs (manW E q kd x)) {index : Nat} (hlink : Cond.fieldLink RX7 index RX7 "a" "I" ∈ lw_all) (hnm : meth.name = "<init>") (hdg : decode cc pc = .ok (.putfield index, 3))
    (kk : ∀ (H1 : Heap) (locs1 : List Loc), wI E A s H1 locs1 (manW E q kd v) → W p l e R s m args below meth c H1 locs1 cells slots Q (F0 m (pc + 3) ls rest)) : W p l e R s m args below meth c H locs cells slots Q (F0 m pc ls (.int v :: .ref q :: rest)) := by
  revert hI kk
  refine kd_5 (P := fun kd => wI E A s H locs (manW E q kd x) → (∀ (H1 : Heap) (locs1 : List Loc), wI E A s H1 locs1 (manW E q kd v) → W p l e R s m args below meth c H1 locs1 cells slots Q (F0 m (pc + 3) ls rest)) → W p l e R s m args below meth c H locs cells slots Q (F0 m pc ls (.int v :: .ref q :: rest))) h1 h5 ?_ ?_ ?_ ?_ ?_
  · intro hI kk; exact r_putF hexec hb hts hown hK hI okX8 (ci := 7) rfl 0 rfl 0 (by decide) hlink rfl rfl hnm rfl rfl rfl (Nat.le_of_ble_eq_true rfl) rfl hdg kk
  · intro hI kk; exact r_putF hexec hb hts hown hK hI okX9 (ci := 8) rfl 0 rfl 0 (by decide) hlink rfl rfl hnm rfl rfl rfl (Nat.le_of_ble_eq_true rfl) rfl hdg kk
  · intro hI kk; exact r_putF hexec hb hts hown hK hI okX10 (ci := 9) rfl 0 rfl 0 (by decide) hlink rfl rfl hnm rfl rfl rfl (Nat.le_of_ble_eq_true rfl) rfl hdg kk
  · intro hI kk; exact r_putF hexec hb hts hown hK hI okX11 (ci := 10) rfl 0 rfl 0 (by decide) hlink rfl rfl hnm rfl rfl rfl (Nat.le_of_ble_eq_true rfl) rfl hdg kk
  · intro hI kk; exact r_putF hexec hb hts hown hK hI okX12 (ci := 11) rfl 0 rfl 0 (by decide) hlink rfl rfl hnm rfl rfl rfl (Nat.le_of_ble_eq_true rfl) rfl hdg kk
end RWS
/-! what a group is worth to one who chooses -/
def wV (K : Nat → Nat → Int32) (cost : Nat → Int32) (n kd g : Nat) : Int32 := if kd = 2 then sumS cost g n else -sumS (msS K n) g n
theorem ms_n (K : Nat → Nat → Int32) (n g : Nat) : ∀ m, ∃ x, x ≤ 8 * m ∧ sumS (msS K n) g m = nI x
  | 0 => ⟨0, Nat.le_refl 0, rfl⟩
  | m + 1 => by
    obtain ⟨x, hx, e⟩ := ms_n K n g m
    have hb := bitsN_le (strS K m n) 8
    rw [sumS, e]
    split
    · exact ⟨x + bitsN (strS K m n) 8, by omega, nI_add _ _⟩
    · exact ⟨x, by omega, Int32.add_zero _⟩
theorem nI_neg9 {y : Nat} (h : y < 2 ^ 30) : (-(nI y)).toInt = -(y : Int) := by
  rw [← Int32.zero_sub, show (0 : Int32) = nI 0 from rfl, pk_sub_toInt (by decide) h]; omega
theorem better_w {K : Nat → Nat → Int32} {cost : Nat → Int32} {n kd g b : Nat} (hn : n ≤ 7) : better K cost n kd g b = decide (wV K cost n kd b < wV K cost n kd g) := by
  unfold better wV
  by_cases h : kd = 2
  · rw [if_pos h, if_pos h, if_pos h]
  · rw [if_neg h, if_neg h, if_neg h]
    obtain ⟨x, hx, ex⟩ := ms_n K n g n
    obtain ⟨y, hy, ey⟩ := ms_n K n b n
    rw [ex, ey]
    refine decide_eq_decide.mpr ?_
    rw [Int32.lt_iff_toInt_lt, Int32.lt_iff_toInt_lt, nI_toInt (by omega), nI_toInt (by omega), nI_neg9 (by omega), nI_neg9 (by omega)]
    omega
theorem ch_no {K : Nat → Nat → Int32} {cost : Nat → Int32} {n kd Y b g : Nat} (hn : n ≤ 7) (hb : ¬ b = 0) (h : wV K cost n kd g ≤ wV K cost n kd b) : chooseG K cost n kd Y b g = b := by
  unfold chooseG
  rw [better_w hn, decide_eq_false (Int32.not_lt.mpr h), if_neg]
  intro q
  rcases q.2 with q2 | q2
  · exact hb q2
  · cases q2
theorem ch_yes {K : Nat → Nat → Int32} {cost : Nat → Int32} {n kd Y b g : Nat} (hn : n ≤ 7) (h0 : nd g Y = 0) (h : ¬ wV K cost n kd g ≤ wV K cost n kd b) : chooseG K cost n kd Y b g = g := by
  unfold chooseG
  rw [better_w hn, decide_eq_true (Int32.not_le.mp h), if_pos ⟨h0, Or.inr rfl⟩]
