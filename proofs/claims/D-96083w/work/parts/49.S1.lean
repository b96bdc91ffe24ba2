theorem sl_le : ∀ i, i < 8 → sLen.getD i 0 < 8 := by decide
theorem sl_1 : ∀ i, i < 8 → 1 ≤ sLen.getD i 0 := by decide
theorem sb_rg : ∀ i, i < 8 → ∀ j, j < sLen.getD i 0 → ∃ x, x < 256 ∧ (sByt.getD i []).getD j 0 = nI x ∧ nI x &&& 255 = nI x ∧ ((nI x).toUInt32 % 65536).toInt32 = nI x := by
  intro i hi j hj
  match i, hi with
  | 0, _ => match j, hj with | 0, _ => exact ⟨59, by decide, by decide, by decide, by decide⟩
  | 1, _ => match j, hj with
    | 0, _ => exact ⟨112, by decide, by decide, by decide, by decide⟩
    | 1, _ => exact ⟨101, by decide, by decide, by decide, by decide⟩
    | 2, _ => exact ⟨114, by decide, by decide, by decide, by decide⟩
    | 3, _ => exact ⟨115, by decide, by decide, by decide, by decide⟩
    | 4, _ => exact ⟨111, by decide, by decide, by decide, by decide⟩
    | 5, _ => exact ⟨110, by decide, by decide, by decide, by decide⟩
  | 2, _ => match j, hj with
    | 0, _ => exact ⟨107, by decide, by decide, by decide, by decide⟩
    | 1, _ => exact ⟨110, by decide, by decide, by decide, by decide⟩
    | 2, _ => exact ⟨111, by decide, by decide, by decide, by decide⟩
    | 3, _ => exact ⟨119, by decide, by decide, by decide, by decide⟩
  | 3, _ => match j, hj with
    | 0, _ => exact ⟨115, by decide, by decide, by decide, by decide⟩
    | 1, _ => exact ⟨116, by decide, by decide, by decide, by decide⟩
    | 2, _ => exact ⟨114, by decide, by decide, by decide, by decide⟩
    | 3, _ => exact ⟨97, by decide, by decide, by decide, by decide⟩
    | 4, _ => exact ⟨110, by decide, by decide, by decide, by decide⟩
    | 5, _ => exact ⟨103, by decide, by decide, by decide, by decide⟩
    | 6, _ => exact ⟨101, by decide, by decide, by decide, by decide⟩
  | 4, _ => match j, hj with
    | 0, _ => exact ⟨115, by decide, by decide, by decide, by decide⟩
    | 1, _ => exact ⟨101, by decide, by decide, by decide, by decide⟩
    | 2, _ => exact ⟨97, by decide, by decide, by decide, by decide⟩
    | 3, _ => exact ⟨116, by decide, by decide, by decide, by decide⟩
    | 4, _ => exact ⟨115, by decide, by decide, by decide, by decide⟩
  | 5, _ => match j, hj with
    | 0, _ => exact ⟨109, by decide, by decide, by decide, by decide⟩
    | 1, _ => exact ⟨101, by decide, by decide, by decide, by decide⟩
    | 2, _ => exact ⟨109, by decide, by decide, by decide, by decide⟩
    | 3, _ => exact ⟨111, by decide, by decide, by decide, by decide⟩
    | 4, _ => exact ⟨114, by decide, by decide, by decide, by decide⟩
    | 5, _ => exact ⟨121, by decide, by decide, by decide, by decide⟩
  | 6, _ => match j, hj with
    | 0, _ => exact ⟨109, by decide, by decide, by decide, by decide⟩
    | 1, _ => exact ⟨101, by decide, by decide, by decide, by decide⟩
    | 2, _ => exact ⟨116, by decide, by decide, by decide, by decide⟩
  | 7, _ => match j, hj with
    | 0, _ => exact ⟨115, by decide, by decide, by decide, by decide⟩
    | 1, _ => exact ⟨105, by decide, by decide, by decide, by decide⟩
    | 2, _ => exact ⟨110, by decide, by decide, by decide, by decide⟩
    | 3, _ => exact ⟨99, by decide, by decide, by decide, by decide⟩
    | 4, _ => exact ⟨101, by decide, by decide, by decide, by decide⟩
  | n + 8, h => exact absurd h (by omega)
section CK
variable {l : Launch} {E : En} {S : Type} {own : String} {index : Nat} {y : MethodName} {bytes cc : ByteArray} {nL nL1 F F1 mc ms mc1 ms1 n : Nat} {A : Nat → Prop} {As rest : List Value} {wc : va_W}
variable {p : Program} {e : Env} {s : State} {m : MethodId} {args : Array Value} {below : List Frame} {meth : Method} {c : Code} {H : Heap} {locs : List Loc} {cells slots pc : Nat} {Q : State → Prop} {ls : Array Slot}
theorem kVIc {ret : FieldType} {post : Int32 → S → Prop} {ws1 : S → va_W} (f : va_W → va_W) (hexec : p.tables.exec = Jvm.exec) (hb : c.code = cc) (hml : c.maxLocals = nL1) (hts : ∀ w ∈ lw_all, w.before args s = true) (hown : s.vm.findClass own = some m.cls) (hK : KX E A s) (hA : ∀ q, s.heap.size ≤ q → A q) (hl : ls.size = nL1) (hf : isCtx f) (hI : wI E A s H locs (f wc)) (i : Nat) (hi : i < 8)
    (hM : CtI l E y bytes nL ret F mc ms (.ref (E.1.2.1 i) :: As) wc post ws1) (hw : GoodIn lw_all (wsV own index y.cls y (ws_ y bytes nL (some ret)))) (hd : y.cls = y.cls ∧ y.cls ≠ "java/lang/invoke/MethodHandle" ∧ y.cls ≠ "java/lang/invoke/VarHandle" ∧ (parseMethodDescriptor y.desc).map (fun d => d.parameters.length) = some n) (hy : y.cls = "java/lang/String") (hn : As.length = n) (hF : F + 1 ≤ F1) (hL : nL ≤ 81) (hcs : cells + mc ≤ mc1 ∧ slots + ms ≤ ms1) (hroom : (rest.map fun v => v.category).sum ≤ 8) (hdg : decode cc pc = .ok (.invokevirtual index, 3))
    (kk : ∀ (r : Int32) (u : S) (H1 : Heap) (locs1 : List Loc), post r u → wI E A s H1 locs1 (f (ws1 u)) → H.size ≤ H1.size → W p l e (rmF F1 mc1 ms1) s m args below meth c H1 locs1 (cells + mc) (slots + ms) Q (F0 m (pc + 3) ls (.int r :: rest))) : W p l e (rmF F1 mc1 ms1) s m args below meth c H locs cells slots Q (F0 m pc ls (As.reverse ++ .ref (E.1.2.1 i) :: rest)) := by
  have hFc := cut_A hf hI.2.1 hI.2.2 hA
  refine va_calli (va_runV (As := As) (rest := rest) ⟨hexec, hb, hml, hown, hts⟩ (hM H.size) (cwV n hts hw rfl rfl rfl hd ⟨hF, by show 8 + (nL + 11) + 100 * F ≤ 100 * F1; omega⟩) ⟨mPre_blind, by have h := vk_recv hK.2.2.1 hi hI.2.2; rw [hy]; exact h, mPre_at hf hA hK hI⟩ rfl hn hl rfl (lv_room hroom) hdg hcs) hI.2.2 (fun q _ h => hFc q h) hFc (fun r u t H1 locs1 ht hvm hp hB hz hk hS => ?_)
  obtain ⟨hB1, hB2⟩ := hB
  rw [ht] at hB1
  obtain ⟨j1, j2⟩ := join_PD hf hI.1 hI.2.1 hFc hk hB1 hB2
  exact kk r u H1 locs1 hp ⟨j1, j2, hS⟩ hz
end CK

theorem sl_sh : ∀ i, i < 8 → nI (sLen.getD i 0) >>> ((0 : Int32) &&& 31) = nI (sLen.getD i 0) := by decide

theorem c4_coder (l : Launch) (E : En)  (i : Nat) (hi : i < 8) : CtI l E yJ4_coder cJ4_coder 1 .byte 0 0 0 [.ref (E.1.2.1 i)] (([] : va_W)) (fun (r : Int32) (u : Unit) => r = 0) (fun (u : Unit) => ([] : va_W)) := by
  refine CtI.of (by decide +kernel) (Nat.le_of_ble_eq_true rfl) ?_
  intro pR eR sR mR aR bR tR cR AR ls QR hxR hbR hmlR hts hown hlk hnm hA hK hI hl hret
  have hl : lv_has ls 1 [(0, .ref (E.1.2.1 i))] := hl
  refine va_gets hxR hbR hK.2.2.2.2.1 hI.2.2 hown (hts _ q1001) (fun _ h => h) dJ4_coder_0 ?_
  refine lv_if_eq (tgt := 13) hxR hbR dJ4_coder_3 (by decide) (fun c => absurd c (by decide)) (fun _ => ?_)
  refine lv_aload_n hxR hbR dJ4_coder_6 rfl (lv_at hl 0 rfl) ?_
  refine vk_getf hxR hbR (hK.2.2.1.1 i hi).2.1 hI.2.2 hown (hts _ q1016) (fun _ h => h) dJ4_coder_7 ?_
  refine lv_goto (tgt := 14) hxR hbR dJ4_coder_10 (by decide) ?_
  exact hret () 0 _ _ _ _ _ _ dJ4_coder_14 hI (by show 0 = 0; rfl) (Nat.le_of_ble_eq_true rfl) (Nat.le_of_ble_eq_true rfl) rfl

theorem c4_isLatin1 (l : Launch) (E : En)  (i : Nat) (hi : i < 8) : CtI l E yJ4_isLatin1 cJ4_isLatin1 1 .boolean 0 0 0 [.ref (E.1.2.1 i)] (([] : va_W)) (fun (r : Int32) (u : Unit) => r = 1) (fun (u : Unit) => ([] : va_W)) := by
  refine CtI.of (by decide +kernel) (Nat.le_of_ble_eq_true rfl) ?_
  intro pR eR sR mR aR bR tR cR AR ls QR hxR hbR hmlR hts hown hlk hnm hA hK hI hl hret
  have hl : lv_has ls 1 [(0, .ref (E.1.2.1 i))] := hl
  refine va_gets hxR hbR hK.2.2.2.2.1 hI.2.2 hown (hts _ q1001) (fun _ h => h) dJ4_isLatin1_0 ?_
  refine lv_if_eq (tgt := 17) hxR hbR dJ4_isLatin1_3 (by decide) (fun c => absurd c (by decide)) (fun _ => ?_)
  refine lv_aload_n hxR hbR dJ4_isLatin1_6 rfl (lv_at hl 0 rfl) ?_
  refine vk_getf hxR hbR (hK.2.2.1.1 i hi).2.1 hI.2.2 hown (hts _ q1016) (fun _ h => h) dJ4_isLatin1_7 ?_
  refine lv_if_ne (tgt := 17) hxR hbR dJ4_isLatin1_10 (by decide) (fun c => absurd c (by decide)) (fun _ => ?_)
  refine lv_iconst (v := 1) hxR hbR dJ4_isLatin1_13 (by decide) ?_
  refine lv_goto (tgt := 18) hxR hbR dJ4_isLatin1_14 (by decide) ?_
  exact hret () 1 _ _ _ _ _ _ dJ4_isLatin1_18 hI (by show 1 = 1; rfl) (Nat.le_of_ble_eq_true rfl) (Nat.le_of_ble_eq_true rfl) rfl

theorem c4_length (l : Launch) (E : En)  (i : Nat) (hi : i < 8) : CtI l E yJ4_length cJ4_length 1 .int 1 0 0 [.ref (E.1.2.1 i)] (([] : va_W)) (fun (r : Int32) (u : Unit) => r = nI (sLen.getD i 0)) (fun (u : Unit) => ([] : va_W)) := by
  have hsl := sl_le i hi
  refine CtI.of (by decide +kernel) (Nat.le_of_ble_eq_true rfl) ?_
  intro pR eR sR mR aR bR tR cR AR ls QR hxR hbR hmlR hts hown hlk hnm hA hK hI hl hret
  have hl : lv_has ls 1 [(0, .ref (E.1.2.1 i))] := hl
  refine lv_aload_n hxR hbR dJ4_length_0 rfl (lv_at hl 0 rfl) ?_
  refine vk_getf hxR hbR (hK.2.2.1.1 i hi).2.2.1 hI.2.2 hown (hts _ q1015) (fun _ h => h) dJ4_length_1 ?_
  refine va_tlen hxR hbR (hK.2.2.1.1 i hi).2.2.2 hI.2.2 (v := nI (sLen.getD i 0)) rfl dJ4_length_4 ?_
  refine lv_aload_n hxR hbR dJ4_length_5 rfl (lv_at hl 0 rfl) ?_
  refine kVIc (n := 0) (As := []) (rest := [.int (nI (sLen.getD i 0))]) (fun w => w ++ (([] : va_W))) hxR hbR hmlR hts hown hK hA hl.1 (isCtx.suf _) hI i hi (c4_coder l E i  hi ) (lw_V q1800 q1801 q1802 q91 q1803) ⟨rfl, by decide +kernel⟩ rfl rfl (Nat.le_of_ble_eq_true rfl) (Nat.le_of_ble_eq_true rfl) ⟨Nat.le_of_ble_eq_true rfl, Nat.le_of_ble_eq_true rfl⟩ (Nat.le_of_ble_eq_true rfl) dJ4_length_6 (fun r_6 u H locs hp hI hz => ?_)
  have hI : wI E AR sR H locs (([] : va_W)) := hI
  obtain rfl : r_6 = 0 := hp
  refine lv_ishr hxR hbR dJ4_length_9 ?_
  refine lv_as (y := nI ((sLen.getD i 0) >>> 0)) (nb_shr (sLen.getD i 0) 0 (by omega) (by omega)) ?_
  refine lv_as (y := nI (sLen.getD i 0)) rfl ?_
  exact hret () (nI (sLen.getD i 0)) _ _ _ _ _ _ dJ4_length_10 hI (by show (nI (sLen.getD i 0)) = nI (sLen.getD i 0); rfl) (Nat.le_of_ble_eq_true rfl) (Nat.le_of_ble_eq_true rfl) rfl

theorem c18_checkIndexN (l : Launch) (E : En)  (j k : Nat) (hjk : j < k) (hk : k < 2 ^ 31) : CtI l E yJ18_checkIndex cJ18_checkIndex 3 .int 0 0 0 [.int (nI j), .int (nI k), .null] (([] : va_W)) (fun (r : Int32) (u : Unit) => r = nI j) (fun (u : Unit) => ([] : va_W)) := by
  refine CtI.of (by decide +kernel) (Nat.le_of_ble_eq_true rfl) ?_
  intro pR eR sR mR aR bR tR cR AR ls QR hxR hbR hmlR hts hown hlk hnm hA hK hI hl hret
  have hl : lv_has ls 3 [(0, .int (nI j)), (1, .int (nI k)), (2, .null)] := hl
  refine lv_iload_n hxR hbR dJ18_checkIndex_0 rfl (lv_at hl 0 rfl) ?_
  refine lv_if_lt (tgt := 9) hxR hbR dJ18_checkIndex_1 (by decide) (fun c_1 => ?_) (fun c_1 => ?_)
  · skip
    have c_1 : j < 0 := (n_lt (a := j) (b := 0) (by omega) (by omega)).mp c_1
    exfalso
    omega
  · skip
    have c_1 : 0 ≤ j := Nat.le_of_not_lt (fun zz => c_1 ((n_lt (a := j) (b := 0) (by omega) (by omega)).mpr zz))
    refine lv_iload_n hxR hbR dJ18_checkIndex_4 rfl (lv_at hl 0 rfl) ?_
    refine lv_iload_n hxR hbR dJ18_checkIndex_5 rfl (lv_at hl 1 rfl) ?_
    refine lv_icmp_lt (tgt := 16) hxR hbR dJ18_checkIndex_6 (by decide) (fun c_6 => ?_) (fun c_6 => ?_)
    · skip
      have c_6 : j < k := (n_lt (a := j) (b := k) (by omega) (by omega)).mp c_6
      refine lv_iload_n hxR hbR dJ18_checkIndex_16 rfl (lv_at hl 0 rfl) ?_
      exact hret () (nI j) _ _ _ _ _ _ dJ18_checkIndex_17 hI (by show (nI j) = nI j; rfl) (Nat.le_of_ble_eq_true rfl) (Nat.le_of_ble_eq_true rfl) rfl
    · skip
      have c_6 : k ≤ j := Nat.le_of_not_lt (fun zz => c_6 ((n_lt (a := j) (b := k) (by omega) (by omega)).mpr zz))
      exfalso
      omega

theorem c18_checkIndexR (l : Launch) (E : En)  (j k o : Nat) (hjk : j < k) (hk : k < 2 ^ 31) : CtI l E yJ18_checkIndex cJ18_checkIndex 3 .int 0 0 0 [.int (nI j), .int (nI k), .ref o] (([] : va_W)) (fun (r : Int32) (u : Unit) => r = nI j) (fun (u : Unit) => ([] : va_W)) := by
  refine CtI.of (by decide +kernel) (Nat.le_of_ble_eq_true rfl) ?_
  intro pR eR sR mR aR bR tR cR AR ls QR hxR hbR hmlR hts hown hlk hnm hA hK hI hl hret
  have hl : lv_has ls 3 [(0, .int (nI j)), (1, .int (nI k)), (2, .ref o)] := hl
  refine lv_iload_n hxR hbR dJ18_checkIndex_0 rfl (lv_at hl 0 rfl) ?_
  refine lv_if_lt (tgt := 9) hxR hbR dJ18_checkIndex_1 (by decide) (fun c_1 => ?_) (fun c_1 => ?_)
  · skip
    have c_1 : j < 0 := (n_lt (a := j) (b := 0) (by omega) (by omega)).mp c_1
    exfalso
    omega
  · skip
    have c_1 : 0 ≤ j := Nat.le_of_not_lt (fun zz => c_1 ((n_lt (a := j) (b := 0) (by omega) (by omega)).mpr zz))
    refine lv_iload_n hxR hbR dJ18_checkIndex_4 rfl (lv_at hl 0 rfl) ?_
    refine lv_iload_n hxR hbR dJ18_checkIndex_5 rfl (lv_at hl 1 rfl) ?_
    refine lv_icmp_lt (tgt := 16) hxR hbR dJ18_checkIndex_6 (by decide) (fun c_6 => ?_) (fun c_6 => ?_)
    · skip
      have c_6 : j < k := (n_lt (a := j) (b := k) (by omega) (by omega)).mp c_6
      refine lv_iload_n hxR hbR dJ18_checkIndex_16 rfl (lv_at hl 0 rfl) ?_
      exact hret () (nI j) _ _ _ _ _ _ dJ18_checkIndex_17 hI (by show (nI j) = nI j; rfl) (Nat.le_of_ble_eq_true rfl) (Nat.le_of_ble_eq_true rfl) rfl
    · skip
      have c_6 : k ≤ j := Nat.le_of_not_lt (fun zz => c_6 ((n_lt (a := j) (b := k) (by omega) (by omega)).mpr zz))
      exfalso
      omega

theorem c4_checkIndex (l : Launch) (E : En)  (j k : Nat) (hjk : j < k) (hk : k < 2 ^ 31) : CtV l E yJ4_checkIndex cJ4_checkIndex 2 1 0 0 [.int (nI j), .int (nI k)] (([] : va_W)) (fun (u : Unit) => True) (fun (u : Unit) => ([] : va_W)) := by
  refine CtV.of (by decide +kernel) (Nat.le_of_ble_eq_true rfl) ?_
  intro pR eR sR mR aR bR tR cR AR ls QR hxR hbR hmlR hts hown hlk hnm hA hK hI hl hret
  have hl : lv_has ls 2 [(0, .int (nI j)), (1, .int (nI k))] := hl
  refine lv_iload_n hxR hbR dJ4_checkIndex_0 rfl (lv_at hl 0 rfl) ?_
  refine lv_iload_n hxR hbR dJ4_checkIndex_1 rfl (lv_at hl 1 rfl) ?_
  rcases hK.2.2.2.2.2.2.2.2.1 with hzz | ⟨oo, hzz⟩
  · skip
    refine va_gets hxR hbR hzz hI.2.2 hown (hts _ q940) (fun _ h => h) dJ4_checkIndex_2 ?_
    refine kSI (n := 3) (As := [.int (nI j), .int (nI k), .null]) (rest := []) (fun w => w ++ (([] : va_W))) hxR hbR hmlR hts hown hK hA hl.1 (isCtx.suf _) hI (c18_checkIndexN l E  j k (by first | omega | with_reducible assumption) (by first | omega | with_reducible assumption)) (lw_S q963 q964 q114 q965) (by decide +kernel) rfl (Nat.le_of_ble_eq_true rfl) (Nat.le_of_ble_eq_true rfl) ⟨Nat.le_of_ble_eq_true rfl, Nat.le_of_ble_eq_true rfl⟩ (Nat.le_of_ble_eq_true rfl) dJ4_checkIndex_5 (fun r_5 u H locs hp hI hz => ?_)
    have hI : wI E AR sR H locs (([] : va_W)) := hI
    have hp : r_5 = nI j := hp
    have hr_5 := hp
    subst hr_5
    refine lv_pop hxR hbR dJ4_checkIndex_8 rfl ?_
    exact hret () _ _ _ _ _ _ dJ4_checkIndex_9 hI (by show True; trivial) (Nat.le_of_ble_eq_true rfl) (Nat.le_of_ble_eq_true rfl)
  · skip
    refine va_gets hxR hbR hzz hI.2.2 hown (hts _ q940) (fun _ h => h) dJ4_checkIndex_2 ?_
    refine kSI (n := 3) (As := [.int (nI j), .int (nI k), .ref oo]) (rest := []) (fun w => w ++ (([] : va_W))) hxR hbR hmlR hts hown hK hA hl.1 (isCtx.suf _) hI (c18_checkIndexR l E  j k oo (by first | omega | with_reducible assumption) (by first | omega | with_reducible assumption)) (lw_S q963 q964 q114 q965) (by decide +kernel) rfl (Nat.le_of_ble_eq_true rfl) (Nat.le_of_ble_eq_true rfl) ⟨Nat.le_of_ble_eq_true rfl, Nat.le_of_ble_eq_true rfl⟩ (Nat.le_of_ble_eq_true rfl) dJ4_checkIndex_5 (fun r_5 u H locs hp hI hz => ?_)
    have hI : wI E AR sR H locs (([] : va_W)) := hI
    have hp : r_5 = nI j := hp
    have hr_5 := hp
    subst hr_5
    refine lv_pop hxR hbR dJ4_checkIndex_8 rfl ?_
    exact hret () _ _ _ _ _ _ dJ4_checkIndex_9 hI (by show True; trivial) (Nat.le_of_ble_eq_true rfl) (Nat.le_of_ble_eq_true rfl)

theorem c17_charAtK (l : Launch) (E : En)  (i j : Nat) (hi : i < 8) (hj : j < sLen.getD i 0) : CtI l E yJ17_charAt cJ17_charAt 2 .char 2 0 0 [.ref (E.1.2.2 i), .int (nI j)] (([] : va_W)) (fun (r : Int32) (u : Unit) => r = (sByt.getD i []).getD j 0) (fun (u : Unit) => ([] : va_W)) := by
  have hsl := sl_le i hi
  obtain ⟨x, hx, hx1, hx2, hx3⟩ := sb_rg i hi j hj
  refine CtI.of (by decide +kernel) (Nat.le_of_ble_eq_true rfl) ?_
  intro pR eR sR mR aR bR tR cR AR ls QR hxR hbR hmlR hts hown hlk hnm hA hK hI hl hret
  have hl : lv_has ls 2 [(0, .ref (E.1.2.2 i)), (1, .int (nI j))] := hl
  refine lv_iload_n hxR hbR dJ17_charAt_0 rfl (lv_at hl 1 rfl) ?_
  refine lv_aload_n hxR hbR dJ17_charAt_1 rfl (lv_at hl 0 rfl) ?_
  refine va_tlen hxR hbR (hK.2.2.1.1 i hi).2.2.2 hI.2.2 (v := nI (sLen.getD i 0)) rfl dJ17_charAt_2 ?_
  refine kSV (n := 2) (As := [.int (nI j), .int (nI (sLen.getD i 0))]) (rest := []) (fun w => w ++ (([] : va_W))) hxR hbR hmlR hts hown hK hA hl.1 (isCtx.suf _) hI (c4_checkIndex l E  j (sLen.getD i 0) (by first | omega | with_reducible assumption) (by first | omega | with_reducible assumption)) (lw_S q1811 q961 q91 q962) (by decide +kernel) rfl (Nat.le_of_ble_eq_true rfl) (Nat.le_of_ble_eq_true rfl) ⟨Nat.le_of_ble_eq_true rfl, Nat.le_of_ble_eq_true rfl⟩ (Nat.le_of_ble_eq_true rfl) dJ17_charAt_3 (fun u H locs hp hI hz => ?_)
  have hI : wI E AR sR H locs (([] : va_W)) := hI
  refine lv_aload_n hxR hbR dJ17_charAt_6 rfl (lv_at hl 0 rfl) ?_
  refine lv_iload_n hxR hbR dJ17_charAt_7 rfl (lv_at hl 1 rfl) ?_
  refine va_tb hxR hbR (hK.2.2.1.1 i hi).2.2.2 hI.2.2 (vp_in_nI (n := j) hj (by omega)) (v := .int ((sByt.getD i []).getD j 0)) (by rw [nI_clamp (by omega)]) dJ17_charAt_8 ?_
  refine lv_sipush (v := 255) hxR hbR dJ17_charAt_9 (by decide) ?_
  refine lv_iand hxR hbR dJ17_charAt_12 ?_
  refine lv_i2c (v := ((((sByt.getD i []).getD j 0) &&& 255).toUInt32 % 65536).toInt32) hxR hbR dJ17_charAt_13 rfl ?_
  exact hret () (((((sByt.getD i []).getD j 0) &&& 255).toUInt32 % 65536).toInt32) _ _ _ _ _ _ dJ17_charAt_14 hI (by show (((((sByt.getD i []).getD j 0) &&& 255).toUInt32 % 65536).toInt32) = (sByt.getD i []).getD j 0; rw [hx1, hx2, hx3]) (Nat.le_of_ble_eq_true rfl) (Nat.le_of_ble_eq_true rfl) (by rw [hx1, hx2, hx3]; exact (pk_charN (by omega)).1)

theorem c4_charAt (l : Launch) (E : En)  (i j : Nat) (hi : i < 8) (hj : j < sLen.getD i 0) : CtI l E yJ4_charAt cJ4_charAt 2 .char 3 0 0 [.ref (E.1.2.1 i), .int (nI j)] (([] : va_W)) (fun (r : Int32) (u : Unit) => r = (sByt.getD i []).getD j 0) (fun (u : Unit) => ([] : va_W)) := by
  have hsl := sl_le i hi
  obtain ⟨x, hx, hx1, hx2, hx3⟩ := sb_rg i hi j hj
  refine CtI.of (by decide +kernel) (Nat.le_of_ble_eq_true rfl) ?_
  intro pR eR sR mR aR bR tR cR AR ls QR hxR hbR hmlR hts hown hlk hnm hA hK hI hl hret
  have hl : lv_has ls 2 [(0, .ref (E.1.2.1 i)), (1, .int (nI j))] := hl
  refine lv_aload_n hxR hbR dJ4_charAt_0 rfl (lv_at hl 0 rfl) ?_
  refine kVIc (n := 0) (As := []) (rest := []) (fun w => w ++ (([] : va_W))) hxR hbR hmlR hts hown hK hA hl.1 (isCtx.suf _) hI i hi (c4_isLatin1 l E i  hi ) (lw_V q1057 q1058 q1059 q91 q1060) ⟨rfl, by decide +kernel⟩ rfl rfl (Nat.le_of_ble_eq_true rfl) (Nat.le_of_ble_eq_true rfl) ⟨Nat.le_of_ble_eq_true rfl, Nat.le_of_ble_eq_true rfl⟩ (Nat.le_of_ble_eq_true rfl) dJ4_charAt_1 (fun r_1 u H locs hp hI hz => ?_)
  have hI : wI E AR sR H locs (([] : va_W)) := hI
  obtain rfl : r_1 = 1 := hp
  refine lv_if_eq (tgt := 16) hxR hbR dJ4_charAt_4 (by decide) (fun c => absurd c (by decide)) (fun _ => ?_)
  refine lv_aload_n hxR hbR dJ4_charAt_7 rfl (lv_at hl 0 rfl) ?_
  refine vk_getf hxR hbR (hK.2.2.1.1 i hi).2.2.1 hI.2.2 hown (hts _ q1015) (fun _ h => h) dJ4_charAt_8 ?_
  refine lv_iload_n hxR hbR dJ4_charAt_11 rfl (lv_at hl 1 rfl) ?_
  refine kSI (n := 2) (As := [.ref (E.1.2.2 i), .int (nI j)]) (rest := []) (fun w => w ++ (([] : va_W))) hxR hbR hmlR hts hown hK hA hl.1 (isCtx.suf _) hI (c17_charAtK l E  i j (by first | omega | with_reducible assumption) hj) (lw_S q1808 q1809 q113 q1810) (by decide +kernel) rfl (Nat.le_of_ble_eq_true rfl) (Nat.le_of_ble_eq_true rfl) ⟨Nat.le_of_ble_eq_true rfl, Nat.le_of_ble_eq_true rfl⟩ (Nat.le_of_ble_eq_true rfl) dJ4_charAt_12 (fun r_12 u H locs hp hI hz => ?_)
  have hI : wI E AR sR H locs (([] : va_W)) := hI
  have hp : r_12 = (sByt.getD i []).getD j 0 := hp
  have hr_12 := hp
  subst hr_12
  exact hret () ((sByt.getD i []).getD j 0) _ _ _ _ _ _ dJ4_charAt_15 hI (by show ((sByt.getD i []).getD j 0) = (sByt.getD i []).getD j 0; rfl) (Nat.le_of_ble_eq_true rfl) (Nat.le_of_ble_eq_true rfl) (by rw [hx1]; exact (pk_charN (by omega)).1)
