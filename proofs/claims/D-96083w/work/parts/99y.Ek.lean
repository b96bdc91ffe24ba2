/-- a String that was made, with its hash fields -/
def strH (E : En) (q v n : Nat) (f : Nat → Int32) (h z : Int32) : va_W := [(q, .inr (15, [.ref v, .int 0, .int h, .int z])), (v, .inl (E.2 4, n, .inl f))]
theorem wI_neK {E : En} {A : Nat → Prop} {s : State} {H : Heap} {locs : List Loc} {ws : va_W} (hK : KX E A s) (hI : wI E A s H locs ws) {q0 q i : Nat} {x : va_E} (hi : i < 8) (he : ws[q0]? = some (q, x)) : ¬ q = E.1.2.1 i := by
  intro e
  obtain ⟨_, _, _, _, h⟩ := (hK.2.2.1.1 i hi).1
  exact h (e ▸ hI.2.1.2 q0 _ he)
theorem kst_iA {E : En} {A : Nat → Prop} {s : State} (hK : KX E A s) : iA "java/lang/String" "java/lang/String" true s := by
  obtain ⟨_, _, _, h, _⟩ := (hK.2.2.1.1 0 (by decide)).1
  exact iA.rf h
theorem kst_isA {E : En} {A : Nat → Prop} {s : State} {H : Heap} {locs : List Loc} {ws : va_W} (hK : KX E A s) (hI : wI E A s H locs ws) {i : Nat} (hi : i < 8) : isA s H (E.1.2.1 i) "java/lang/String" := vk_recv hK.2.2.1 hi hI.2.2
theorem sh_ne : ∀ i, i < 8 → ¬ sHash.getD i 0 = 0 := by decide
theorem kst_inj {E : En} {A : Nat → Prop} {s : State} (hK : KX E A s) {i j : Nat} (hi : i < 8) (hj : j < 8) (h : E.1.2.1 i = E.1.2.1 j) : i = j := hK.2.2.1.2 i j hi hj h

theorem j4_isLatin1 (l : Launch) (E : En) (qs : Nat) (vs : Nat) (ns : Nat) (fs : Nat → Int32) (hs : Int32) (zs : Int32)   : CtI l E yJ4_isLatin1 cJ4_isLatin1 1 .boolean 0 0 0 [.ref qs] (strH E qs vs ns fs hs zs) (fun (r : Int32) (u : Unit) => r = 1) (fun (u : Unit) => strH E qs vs ns fs hs zs) := by
  refine CtI.of (by decide +kernel) (Nat.le_of_ble_eq_true rfl) ?_
  intro pR eR sR mR aR bR tR cR AR ls QR hxR hbR hmlR hts hown hlk hnm hA hK hI hl hret
  have hl : lv_has ls 1 [(0, .ref qs)] := hl
  refine va_gets hxR hbR hK.2.2.2.2.1 hI.2.2 hown (hts _ q1001) (fun _ h => h) dJ4_isLatin1_0 ?_
  refine lv_if_eq (tgt := 17) hxR hbR dJ4_isLatin1_3 (by decide) (fun c => absurd c (by decide)) (fun _ => ?_)
  refine lv_aload_n hxR hbR dJ4_isLatin1_6 rfl (lv_at hl 0 rfl) ?_
  refine r_get hxR hbR hts hown hK hI okJ4 (ci := 15) rfl 0 rfl 1 (by decide) q1016 rfl (v := .int 0) rfl dJ4_isLatin1_7 ?_
  refine lv_if_ne (tgt := 17) hxR hbR dJ4_isLatin1_10 (by decide) (fun c => absurd c (by decide)) (fun _ => ?_)
  refine lv_iconst (v := 1) hxR hbR dJ4_isLatin1_13 (by decide) ?_
  refine lv_goto (tgt := 18) hxR hbR dJ4_isLatin1_14 (by decide) ?_
  exact hret () 1 _ _ _ _ _ _ dJ4_isLatin1_18 hI (by show 1 = 1; rfl) (Nat.le_of_ble_eq_true rfl) (Nat.le_of_ble_eq_true rfl) rfl

theorem j4_hashCode (l : Launch) (E : En) (qs : Nat) (vs : Nat) (ns : Nat) (fs : Nat → Int32)  (h1 : 1 ≤ ns) (h2 : ns ≤ 1000) : CtI l E yJ4_hashCode cJ4_hashCode 2 .int 3 0 0 [.ref qs] (strH E qs vs ns fs 0 0) (fun (r : Int32) (u : Int32 × Int32) => r = hshF fs ns) (fun (u : Int32 × Int32) => strH E qs vs ns fs u.1 u.2) := by
  refine CtI.of (by decide +kernel) (Nat.le_of_ble_eq_true rfl) ?_
  intro pR eR sR mR aR bR tR cR AR ls QR hxR hbR hmlR hts hown hlk hnm hA hK hI hl hret
  have hl : lv_has ls 2 [(0, .ref qs)] := hl
  refine lv_aload_n hxR hbR dJ4_hashCode_0 rfl (lv_at hl 0 rfl) ?_
  refine r_get hxR hbR hts hown hK hI okJ4 (ci := 15) rfl 0 rfl 2 (by decide) q1017 rfl (v := .int 0) rfl dJ4_hashCode_1 ?_
  refine lv_istore_n (lv' := [(1, .int 0), (0, .ref qs)]) hxR hbR dJ4_hashCode_4 rfl hl (by decide) rfl (fun ls hl => ?_)
  refine lv_iload_n hxR hbR dJ4_hashCode_5 rfl (lv_at hl 0 rfl) ?_
  refine lv_if_ne (tgt := 58) hxR hbR dJ4_hashCode_6 (by decide) (fun c => absurd c (by decide)) (fun _ => ?_)
  refine lv_aload_n hxR hbR dJ4_hashCode_9 rfl (lv_at hl 1 rfl) ?_
  refine r_get hxR hbR hts hown hK hI okJ4 (ci := 15) rfl 0 rfl 3 (by decide) q1018 rfl (v := .int 0) rfl dJ4_hashCode_10 ?_
  refine lv_if_ne (tgt := 58) hxR hbR dJ4_hashCode_13 (by decide) (fun c => absurd c (by decide)) (fun _ => ?_)
  refine lv_aload_n hxR hbR dJ4_hashCode_16 rfl (lv_at hl 1 rfl) ?_
  refine kVI (n := 0) (As := []) (rest := []) (fun w => w) hxR hbR hmlR hts hown hK hA hl.1 isCtx.id hI (j4_isLatin1 l E qs vs ns fs 0 0  ) (lw_V q1057 q1058 q1059 q91 q1060) ⟨rfl, by decide +kernel⟩ 0 15 rfl rfl rfl rfl (Nat.le_of_ble_eq_true rfl) (Nat.le_of_ble_eq_true rfl) ⟨Nat.le_of_ble_eq_true rfl, Nat.le_of_ble_eq_true rfl⟩ (Nat.le_of_ble_eq_true rfl) dJ4_hashCode_17 (fun r_17 u H locs hp hI hz => ?_)
  have hI : wI E AR sR H locs (strH E qs vs ns fs 0 0) := hI
  have hp : r_17 = 1 := hp
  have hr_17 := hp
  subst hr_17
  refine lv_if_eq (tgt := 33) hxR hbR dJ4_hashCode_20 (by decide) (fun c => absurd c (by decide)) (fun _ => ?_)
  refine lv_aload_n hxR hbR dJ4_hashCode_23 rfl (lv_at hl 1 rfl) ?_
  refine r_get hxR hbR hts hown hK hI okJ4 (ci := 15) rfl 0 rfl 0 (by decide) q1015 rfl (v := .ref vs) rfl dJ4_hashCode_24 ?_
  have hI : wI E AR sR _ _ ([(qs, .inr (15, [.ref vs, .int 0, .int 0, .int 0]))] ++ (byW E vs ns fs)) := hI
  refine kSI (n := 1) (As := [.ref vs]) (rest := []) (fun w => ([(qs, .inr (15, [.ref vs, .int 0, .int 0, .int 0]))]) ++ w) hxR hbR hmlR hts hown hK hA hl.1 (isCtx.pre _) hI (j17_hashCode l E vs ns fs  h1 h2) (lw_S q1061 q1062 q113 q1063) (by decide +kernel) rfl (Nat.le_of_ble_eq_true rfl) (Nat.le_of_ble_eq_true rfl) ⟨Nat.le_of_ble_eq_true rfl, Nat.le_of_ble_eq_true rfl⟩ (Nat.le_of_ble_eq_true rfl) dJ4_hashCode_27 (fun r_27 u H locs hp hI hz => ?_)
  have hI : wI E AR sR H locs ([(qs, .inr (15, [.ref vs, .int 0, .int 0, .int 0]))] ++ (byW E vs ns fs)) := hI
  have hp : r_27 = hshF fs ns := hp
  have hr_27 := hp
  subst hr_27
  have hI : wI E AR sR _ _ (strH E qs vs ns fs 0 0) := hI
  refine lv_goto (tgt := 40) hxR hbR dJ4_hashCode_30 (by decide) ?_
  refine lv_istore_n (lv' := [(1, .int (hshF fs ns)), (0, .ref qs)]) hxR hbR dJ4_hashCode_40 rfl hl (by decide) rfl (fun ls hl => ?_)
  refine lv_iload_n hxR hbR dJ4_hashCode_41 rfl (lv_at hl 0 rfl) ?_
  refine lv_if_ne (tgt := 53) hxR hbR dJ4_hashCode_42 (by decide) (fun c_42 => ?_) (fun c_42 => ?_)
  · skip
    have i_42 : ¬ ((hshF fs ns).toInt = 0) := by have zz := mt i_eq.mpr c_42; exact zz
    refine lv_aload_n hxR hbR dJ4_hashCode_53 rfl (lv_at hl 1 rfl) ?_
    refine lv_iload_n hxR hbR dJ4_hashCode_54 rfl (lv_at hl 0 rfl) ?_
    refine r_put (v := .int (hshF fs ns)) (ws1 := strH E qs vs ns fs (hshF fs ns) 0) hxR hbR hts hown hK hI okJ4 (ci := 15) rfl 0 rfl 2 (by decide) q1017 rfl rfl rfl rfl (Nat.le_of_ble_eq_true rfl) rfl dJ4_hashCode_55 (fun H locs hI => ?_)
    refine lv_iload_n hxR hbR dJ4_hashCode_58 rfl (lv_at hl 0 rfl) ?_
    exact hret (hshF fs ns, 0) (hshF fs ns) _ _ _ _ _ _ dJ4_hashCode_59 hI (by show (hshF fs ns) = hshF fs ns; rfl) (Nat.le_of_ble_eq_true rfl) (Nat.le_of_ble_eq_true rfl) rfl
  · skip
    have i_42 : (hshF fs ns).toInt = 0 := by have zz := i_eq.mp c_42; exact zz
    refine lv_aload_n hxR hbR dJ4_hashCode_45 rfl (lv_at hl 1 rfl) ?_
    refine lv_iconst (v := 1) hxR hbR dJ4_hashCode_46 (by decide) ?_
    refine r_put (v := .int 1) (ws1 := strH E qs vs ns fs 0 1) hxR hbR hts hown hK hI okJ4 (ci := 15) rfl 0 rfl 3 (by decide) q1018 rfl rfl rfl rfl (Nat.le_of_ble_eq_true rfl) rfl dJ4_hashCode_47 (fun H locs hI => ?_)
    refine lv_goto (tgt := 58) hxR hbR dJ4_hashCode_50 (by decide) ?_
    refine lv_iload_n hxR hbR dJ4_hashCode_58 rfl (lv_at hl 0 rfl) ?_
    exact hret (0, 1) (hshF fs ns) _ _ _ _ _ _ dJ4_hashCode_59 hI (by show (hshF fs ns) = hshF fs ns; rfl) (Nat.le_of_ble_eq_true rfl) (Nat.le_of_ble_eq_true rfl) rfl

theorem j4_equals (l : Launch) (E : En) (qs : Nat) (vs : Nat) (ns : Nat) (fs : Nat → Int32) (hs : Int32) (zs : Int32) (i : Nat) (hi : i < 8) (hna : ns ≤ 1000) : CtI l E yJ4_equals cJ4_equals 3 .boolean 1 0 0 [.ref qs, .ref (E.1.2.1 i)] (strH E qs vs ns fs hs zs) (fun (r : Int32) (u : Unit) => r = b2i (eqK fs ns i)) (fun (u : Unit) => strH E qs vs ns fs hs zs) := by
  refine CtI.of (by decide +kernel) (Nat.le_of_ble_eq_true rfl) ?_
  intro pR eR sR mR aR bR tR cR AR ls QR hxR hbR hmlR hts hown hlk hnm hA hK hI hl hret
  have hl : lv_has ls 3 [(0, .ref qs), (1, .ref (E.1.2.1 i))] := hl
  refine lv_aload_n hxR hbR dJ4_equals_0 rfl (lv_at hl 0 rfl) ?_
  refine lv_aload_n hxR hbR dJ4_equals_1 rfl (lv_at hl 1 rfl) ?_
  refine lv_acmp_ne (rx := some (qs)) (ry := some (E.1.2.1 i)) (tgt := 7) hxR hbR dJ4_equals_2 (by decide) (fun _ => ?_) (fun c => absurd (Option.some.inj c) (wI_neK hK hI hi (q0 := 0) rfl))
  refine lv_aload_n hxR hbR dJ4_equals_7 rfl (lv_at hl 1 rfl) ?_
  refine r_instT hxR hbR hts hown q1111 (kst_iA hK) (kst_isA hK hI hi) dJ4_equals_8 ?_
  refine lv_if_eq (tgt := 54) hxR hbR dJ4_equals_11 (by decide) (fun c => absurd c (by decide)) (fun _ => ?_)
  refine lv_aload_n hxR hbR dJ4_equals_14 rfl (lv_at hl 1 rfl) ?_
  refine r_castT hxR hbR hts hown q1111 (kst_iA hK) (kst_isA hK hI hi) dJ4_equals_15 ?_
  refine lv_astore_n (lv' := [(2, .ref (E.1.2.1 i)), (0, .ref qs), (1, .ref (E.1.2.1 i))]) hxR hbR dJ4_equals_18 rfl hl (by decide) rfl (fun ls hl => ?_)
  refine va_gets hxR hbR hK.2.2.2.2.1 hI.2.2 hown (hts _ q1001) (fun _ h => h) dJ4_equals_19 ?_
  refine lv_if_eq (tgt := 36) hxR hbR dJ4_equals_22 (by decide) (fun c => absurd c (by decide)) (fun _ => ?_)
  refine lv_aload_n hxR hbR dJ4_equals_25 rfl (lv_at hl 1 rfl) ?_
  refine r_get hxR hbR hts hown hK hI okJ4 (ci := 15) rfl 0 rfl 1 (by decide) q1016 rfl (v := .int 0) rfl dJ4_equals_26 ?_
  refine lv_aload_n hxR hbR dJ4_equals_29 rfl (lv_at hl 0 rfl) ?_
  refine vk_getf hxR hbR (hK.2.2.1.1 i hi).2.1 hI.2.2 hown (hts _ q1016) (fun _ h => h) dJ4_equals_30 ?_
  refine lv_icmp_ne (tgt := 54) hxR hbR dJ4_equals_33 (by decide) (fun c => absurd c (by decide)) (fun _ => ?_)
  refine lv_aload_n hxR hbR dJ4_equals_36 rfl (lv_at hl 1 rfl) ?_
  refine r_get hxR hbR hts hown hK hI okJ4 (ci := 15) rfl 0 rfl 0 (by decide) q1015 rfl (v := .ref vs) rfl dJ4_equals_37 ?_
  refine lv_aload_n hxR hbR dJ4_equals_40 rfl (lv_at hl 0 rfl) ?_
  refine vk_getf hxR hbR (hK.2.2.1.1 i hi).2.2.1 hI.2.2 hown (hts _ q1015) (fun _ h => h) dJ4_equals_41 ?_
  have hI : wI E AR sR _ _ ([(qs, .inr (15, [.ref vs, .int 0, .int hs, .int zs]))] ++ (byW E vs ns fs)) := hI
  refine kSI (n := 2) (As := [.ref vs, .ref (E.1.2.2 i)]) (rest := []) (fun w => ([(qs, .inr (15, [.ref vs, .int 0, .int hs, .int zs]))]) ++ w) hxR hbR hmlR hts hown hK hA hl.1 (isCtx.pre _) hI (j17_equals l E vs ns fs i hi hna) (lw_S q1112 q1113 q113 q1114) (by decide +kernel) rfl (Nat.le_of_ble_eq_true rfl) (Nat.le_of_ble_eq_true rfl) ⟨Nat.le_of_ble_eq_true rfl, Nat.le_of_ble_eq_true rfl⟩ (Nat.le_of_ble_eq_true rfl) dJ4_equals_44 (fun r_44 u H locs hp hI hz => ?_)
  have hI : wI E AR sR H locs ([(qs, .inr (15, [.ref vs, .int 0, .int hs, .int zs]))] ++ (byW E vs ns fs)) := hI
  have hp : r_44 = b2i (eqK fs ns i) := hp
  have hr_44 := hp
  rcases b2i_cases hr_44 with ⟨c_44, rfl⟩ | ⟨c_44, rfl⟩
  · skip
    have c_44 : strEq fs ns i := eqK_t c_44
    refine lv_if_eq (tgt := 54) hxR hbR dJ4_equals_47 (by decide) (fun c => absurd c (by decide)) (fun _ => ?_)
    refine lv_iconst (v := 1) hxR hbR dJ4_equals_50 (by decide) ?_
    refine lv_goto (tgt := 55) hxR hbR dJ4_equals_51 (by decide) ?_
    have hI : wI E AR sR _ _ (strH E qs vs ns fs hs zs) := hI
    exact hret () 1 _ _ _ _ _ _ dJ4_equals_55 hI (by show 1 = b2i (eqK fs ns i); rw [eqK_1 c_44]; rfl) (Nat.le_of_ble_eq_true rfl) (Nat.le_of_ble_eq_true rfl) rfl
  · skip
    have c_44 : ¬ strEq fs ns i := eqK_f c_44
    refine lv_if_eq (tgt := 54) hxR hbR dJ4_equals_47 (by decide) (fun _ => ?_) (fun c => absurd c (by decide))
    refine lv_iconst (v := 0) hxR hbR dJ4_equals_54 (by decide) ?_
    have hI : wI E AR sR _ _ (strH E qs vs ns fs hs zs) := hI
    exact hret () 0 _ _ _ _ _ _ dJ4_equals_55 hI (by show 0 = b2i (eqK fs ns i); rw [eqK_0 c_44]; rfl) (Nat.le_of_ble_eq_true rfl) (Nat.le_of_ble_eq_true rfl) rfl

theorem j17_equalsK (l : Launch) (E : En)    : CtI l E yJ17_equals cJ17_equals 3 .boolean 0 0 0 [.ref (E.1.2.2 0), .ref (E.1.2.2 7)] (([] : va_W)) (fun (r : Int32) (u : Unit) => r = 0) (fun (u : Unit) => ([] : va_W)) := by
  refine CtI.of (by decide +kernel) (Nat.le_of_ble_eq_true rfl) ?_
  intro pR eR sR mR aR bR tR cR AR ls QR hxR hbR hmlR hts hown hlk hnm hA hK hI hl hret
  have hl : lv_has ls 3 [(0, .ref (E.1.2.2 0)), (1, .ref (E.1.2.2 7))] := hl
  refine lv_aload_n hxR hbR dJ17_equals_0 rfl (lv_at hl 0 rfl) ?_
  refine va_tlen hxR hbR (hK.2.2.1.1 0 (by decide)).2.2.2 hI.2.2 (v := nI (sLen.getD 0 0)) rfl dJ17_equals_1 ?_
  refine lv_aload_n hxR hbR dJ17_equals_2 rfl (lv_at hl 1 rfl) ?_
  refine va_tlen hxR hbR (hK.2.2.1.1 7 (by decide)).2.2.2 hI.2.2 (v := nI (sLen.getD 7 0)) rfl dJ17_equals_3 ?_
  refine lv_icmp_ne (tgt := 34) hxR hbR dJ17_equals_4 (by decide) (fun c_4 => ?_) (fun c_4 => ?_)
  · skip
    have c_4 : ¬ (sLen.getD 0 0) = (sLen.getD 7 0) := fun zz => c_4 ((n_eq (a := (sLen.getD 0 0)) (b := (sLen.getD 7 0)) (by decide) (by decide)).mpr zz)
    refine lv_iconst (v := 0) hxR hbR dJ17_equals_34 (by decide) ?_
    exact hret () 0 _ _ _ _ _ _ dJ17_equals_35 hI (by show 0 = 0; rfl) (Nat.le_of_ble_eq_true rfl) (Nat.le_of_ble_eq_true rfl) rfl
  · skip
    have c_4 : (sLen.getD 0 0) = (sLen.getD 7 0) := (n_eq (a := (sLen.getD 0 0)) (b := (sLen.getD 7 0)) (by decide) (by decide)).mp c_4
    exfalso
    exact absurd c_4 (by decide)

theorem j4_equalsK0 (l : Launch) (E : En)    : CtI l E yJ4_equals cJ4_equals 3 .boolean 0 0 0 [.ref (E.1.2.1 0), .ref (E.1.2.1 0)] (([] : va_W)) (fun (r : Int32) (u : Unit) => r = 1) (fun (u : Unit) => ([] : va_W)) := by
  refine CtI.of (by decide +kernel) (Nat.le_of_ble_eq_true rfl) ?_
  intro pR eR sR mR aR bR tR cR AR ls QR hxR hbR hmlR hts hown hlk hnm hA hK hI hl hret
  have hl : lv_has ls 3 [(0, .ref (E.1.2.1 0)), (1, .ref (E.1.2.1 0))] := hl
  refine lv_aload_n hxR hbR dJ4_equals_0 rfl (lv_at hl 0 rfl) ?_
  refine lv_aload_n hxR hbR dJ4_equals_1 rfl (lv_at hl 1 rfl) ?_
  refine lv_acmp_ne (rx := some (E.1.2.1 0)) (ry := some (E.1.2.1 0)) (tgt := 7) hxR hbR dJ4_equals_2 (by decide) (fun c => absurd rfl c) (fun _ => ?_)
  refine lv_iconst (v := 1) hxR hbR dJ4_equals_5 (by decide) ?_
  exact hret () 1 _ _ _ _ _ _ dJ4_equals_6 hI (by show 1 = 1; rfl) (Nat.le_of_ble_eq_true rfl) (Nat.le_of_ble_eq_true rfl) rfl

theorem j4_equalsK7 (l : Launch) (E : En)    : CtI l E yJ4_equals cJ4_equals 3 .boolean 1 0 0 [.ref (E.1.2.1 0), .ref (E.1.2.1 7)] (([] : va_W)) (fun (r : Int32) (u : Unit) => r = 0) (fun (u : Unit) => ([] : va_W)) := by
  refine CtI.of (by decide +kernel) (Nat.le_of_ble_eq_true rfl) ?_
  intro pR eR sR mR aR bR tR cR AR ls QR hxR hbR hmlR hts hown hlk hnm hA hK hI hl hret
  have hl : lv_has ls 3 [(0, .ref (E.1.2.1 0)), (1, .ref (E.1.2.1 7))] := hl
  refine lv_aload_n hxR hbR dJ4_equals_0 rfl (lv_at hl 0 rfl) ?_
  refine lv_aload_n hxR hbR dJ4_equals_1 rfl (lv_at hl 1 rfl) ?_
  refine lv_acmp_ne (rx := some (E.1.2.1 0)) (ry := some (E.1.2.1 7)) (tgt := 7) hxR hbR dJ4_equals_2 (by decide) (fun _ => ?_) (fun c => absurd (kst_inj hK (by decide) (by decide) (Option.some.inj c)) (by decide))
  refine lv_aload_n hxR hbR dJ4_equals_7 rfl (lv_at hl 1 rfl) ?_
  refine r_instT hxR hbR hts hown q1111 (kst_iA hK) (kst_isA hK hI (by decide)) dJ4_equals_8 ?_
  refine lv_if_eq (tgt := 54) hxR hbR dJ4_equals_11 (by decide) (fun c => absurd c (by decide)) (fun _ => ?_)
  refine lv_aload_n hxR hbR dJ4_equals_14 rfl (lv_at hl 1 rfl) ?_
  refine r_castT hxR hbR hts hown q1111 (kst_iA hK) (kst_isA hK hI (by decide)) dJ4_equals_15 ?_
  refine lv_astore_n (lv' := [(2, .ref (E.1.2.1 7)), (0, .ref (E.1.2.1 0)), (1, .ref (E.1.2.1 7))]) hxR hbR dJ4_equals_18 rfl hl (by decide) rfl (fun ls hl => ?_)
  refine va_gets hxR hbR hK.2.2.2.2.1 hI.2.2 hown (hts _ q1001) (fun _ h => h) dJ4_equals_19 ?_
  refine lv_if_eq (tgt := 36) hxR hbR dJ4_equals_22 (by decide) (fun c => absurd c (by decide)) (fun _ => ?_)
  refine lv_aload_n hxR hbR dJ4_equals_25 rfl (lv_at hl 1 rfl) ?_
  refine vk_getf hxR hbR (hK.2.2.1.1 0 (by decide)).2.1 hI.2.2 hown (hts _ q1016) (fun _ h => h) dJ4_equals_26 ?_
  refine lv_aload_n hxR hbR dJ4_equals_29 rfl (lv_at hl 0 rfl) ?_
  refine vk_getf hxR hbR (hK.2.2.1.1 7 (by decide)).2.1 hI.2.2 hown (hts _ q1016) (fun _ h => h) dJ4_equals_30 ?_
  refine lv_icmp_ne (tgt := 54) hxR hbR dJ4_equals_33 (by decide) (fun c => absurd c (by decide)) (fun _ => ?_)
  refine lv_aload_n hxR hbR dJ4_equals_36 rfl (lv_at hl 1 rfl) ?_
  refine vk_getf hxR hbR (hK.2.2.1.1 0 (by decide)).2.2.1 hI.2.2 hown (hts _ q1015) (fun _ h => h) dJ4_equals_37 ?_
  refine lv_aload_n hxR hbR dJ4_equals_40 rfl (lv_at hl 0 rfl) ?_
  refine vk_getf hxR hbR (hK.2.2.1.1 7 (by decide)).2.2.1 hI.2.2 hown (hts _ q1015) (fun _ h => h) dJ4_equals_41 ?_
  refine kSI (n := 2) (As := [.ref (E.1.2.2 0), .ref (E.1.2.2 7)]) (rest := []) (fun w => w ++ (([] : va_W))) hxR hbR hmlR hts hown hK hA hl.1 (isCtx.suf _) hI (j17_equalsK l E) (lw_S q1112 q1113 q113 q1114) (by decide +kernel) rfl (Nat.le_of_ble_eq_true rfl) (Nat.le_of_ble_eq_true rfl) ⟨Nat.le_of_ble_eq_true rfl, Nat.le_of_ble_eq_true rfl⟩ (Nat.le_of_ble_eq_true rfl) dJ4_equals_44 (fun r_44 u H locs hp hI hz => ?_)
  obtain rfl : r_44 = 0 := hp
  have hI : wI E AR sR _ _ ([] : va_W) := hI
  refine lv_if_eq (tgt := 54) hxR hbR dJ4_equals_47 (by decide) (fun _ => ?_) (fun c => absurd c (by decide))
  refine lv_iconst (v := 0) hxR hbR dJ4_equals_54 (by decide) ?_
  exact hret () 0 _ _ _ _ _ _ dJ4_equals_55 hI (by show 0 = 0; rfl) (Nat.le_of_ble_eq_true rfl) (Nat.le_of_ble_eq_true rfl) rfl

theorem j4_hashCodeK (l : Launch) (E : En)  (i : Nat) (hi : i < 8) : CtI l E yJ4_hashCode cJ4_hashCode 2 .int 0 0 0 [.ref (E.1.2.1 i)] (([] : va_W)) (fun (r : Int32) (u : Unit) => r = sHash.getD i 0) (fun (u : Unit) => ([] : va_W)) := by
  refine CtI.of (by decide +kernel) (Nat.le_of_ble_eq_true rfl) ?_
  intro pR eR sR mR aR bR tR cR AR ls QR hxR hbR hmlR hts hown hlk hnm hA hK hI hl hret
  have hl : lv_has ls 2 [(0, .ref (E.1.2.1 i))] := hl
  refine lv_aload_n hxR hbR dJ4_hashCode_0 rfl (lv_at hl 0 rfl) ?_
  refine vk_getf hxR hbR (hK.2.2.2.2.2.2.2.1 i hi) hI.2.2 hown (hts _ q1017) (fun _ h => h) dJ4_hashCode_1 ?_
  refine lv_istore_n (lv' := [(1, .int (sHash.getD i 0)), (0, .ref (E.1.2.1 i))]) hxR hbR dJ4_hashCode_4 rfl hl (by decide) rfl (fun ls hl => ?_)
  refine lv_iload_n hxR hbR dJ4_hashCode_5 rfl (lv_at hl 0 rfl) ?_
  refine lv_if_ne (tgt := 58) hxR hbR dJ4_hashCode_6 (by decide) (fun c_6 => ?_) (fun c_6 => ?_)
  · skip
    have i_6 : ¬ ((sHash.getD i 0).toInt = 0) := by have zz := mt i_eq.mpr c_6; exact zz
    refine lv_iload_n hxR hbR dJ4_hashCode_58 rfl (lv_at hl 0 rfl) ?_
    exact hret () (sHash.getD i 0) _ _ _ _ _ _ dJ4_hashCode_59 hI (by show (sHash.getD i 0) = sHash.getD i 0; rfl) (Nat.le_of_ble_eq_true rfl) (Nat.le_of_ble_eq_true rfl) rfl
  · skip
    have i_6 : (sHash.getD i 0).toInt = 0 := by have zz := i_eq.mp c_6; exact zz
    exfalso
    exact sh_ne i hi c_6
