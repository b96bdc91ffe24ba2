section GN
variable {p : Program} {l : Launch} {e : Env} {R : Room} {s : State} {m : MethodId} {args : Array Value} {below : List Frame} {meth : Method} {c : Code} {H : Heap} {locs : List Loc} {cells slots : Nat} {Q : State → Prop} {cc : ByteArray} {pc : Nat} {ls : Array Slot} {rest : List Value} {E : En} {A : Nat → Prop} {ws ws1 : va_W} {a : Nat}
theorem r_getN (hexec : p.tables.exec = Jvm.exec) (hb : c.code = cc) {own ref C host : String} {T : u_T} {N ci index : Nat} {ty0 : Nat → FieldType} (hts : ∀ w ∈ lw_all, w.before args s = true) (hown : s.vm.findClass own = some m.cls) (hK : KX E A s) (hI : wI E A s H locs ws) (ok : clsOk C T N ty0) (hc : CL[ci]? = some (C, T, N)) (q0 : Nat) {fs : List Value} (he : ws[q0]? = some (a, .inr (ci, fs))) (k : Nat) (hk : k < N) (hlink : Cond.fieldLinkNest own index ref (T k).2.1 (T k).2.2.1 host ∈ nW) (href : (T k).1 = ref) {v : Value} (hv : fs[k]? = some v) (hdg : decode cc pc = .ok (.getfield index, 3))
    (kk : W p l e R s m args below meth c H locs cells slots Q (F0 m (pc + 3) ls (v :: rest))) : W p l e R s m args below meth c H locs cells slots Q (F0 m pc ls (.ref a :: rest)) :=
  va_getN hexec hb hts ok.1 hown hK.1 hI.1 q0 he hc k hk (va_Nw.use rfl (hK.2.1 _ hlink)) (fun _ h => by rw [← href]; exact h) hv hdg kk
end GN
def siv0 : Nat → Int32 := fun _ => 0
theorem kSym_kn {K : Nat → Nat → Int32} {n : Nat} (p q : Nat) (v : Int32) (h : kSym K n) : kSym (knF K p q v) n := by
  intro a b ha hb
  unfold knF
  by_cases e : (a = p ∧ b = q) ∨ (a = q ∧ b = p)
  · rw [if_pos e, if_pos (by omega)]
  · rw [if_neg e, if_neg (by omega), h a b ha hb]
theorem kSym_wy {K : Nat → Nat → Int32} {n m : Nat} {L : List (Nat × Nat)} (h : kSym K n) : ∀ k, kSym (wyK K L m k) n
  | 0 => h
  | k + 1 => by
    rw [wyK]
    split
    · exact kSym_wy h k
    · exact kSym_kn _ _ _ (kSym_wy h k)
theorem wyK_n {K : Nat → Nat → Int32} {L : List (Nat × Nat)} {m k : Nat} (h : m.testBit k = false) : wyK K L m (k + 1) = wyK K L m k := by rw [wyK, bit_mod, h]; rfl
theorem wyK_y {K : Nat → Nat → Int32} {L : List (Nat × Nat)} {m k : Nat} (h : m.testBit k = true) : wyK K L m (k + 1) = knF (wyK K L m k) (L.getD k (0, 0)).1 (L.getD k (0, 0)).2 0 := by rw [wyK, bit_mod, h]; rfl
theorem wyN_no {K : Nat → Nat → Int32} {S n st m : Nat} (hs : kSym K n) (h : grB (wyK K (prL K S n) m (prL K S n).length) n n S st = true) : wyO K S n st m = false := by
  unfold wyO
  exact decide_eq_false ((grB_cnt (kSym_wy hs _)).mp h)
theorem wyN_yes {K : Nat → Nat → Int32} {S n st m : Nat} (hs : kSym K n) (h : grB (wyK K (prL K S n) m (prL K S n).length) n n S st = false) : wyO K S n st m = true := by
  unfold wyO
  refine decide_eq_true (Classical.byContradiction fun z => ?_)
  rw [(grB_cnt (kSym_wy hs _)).mpr z] at h; cases h
def pr2 (L : List (Nat × Nat)) (f g : Nat → Int32) : Prop := ∀ k, k < L.length → f k = nI (L.getD k (0, 0)).1 ∧ g k = nI (L.getD k (0, 0)).2
theorem pr2.nil {f g : Nat → Int32} : pr2 [] f g := fun _ hk => absurd hk (Nat.not_lt_zero _)
theorem pr2.push {L : List (Nat × Nat)} {f g : Nat → Int32} {p q : Nat} (hA : pr2 L f g) : pr2 (L ++ [(p, q)]) (va_up f L.length (nI p)) (va_up g L.length (nI q)) := by
  intro k hk
  rw [List.length_append, List.length_singleton] at hk
  rw [List.getD_eq_getElem?_getD]
  by_cases e : k = L.length
  · subst e
    rw [va_up_s, va_up_s, List.getElem?_append_right (Nat.le_refl _), Nat.sub_self]
    exact ⟨rfl, rfl⟩
  · rw [va_up_n e, va_up_n e, List.getElem?_append_left (by omega), ← List.getD_eq_getElem?_getD]
    exact hA k (by omega)
theorem pr_mem {K : Nat → Nat → Int32} {S n k : Nat} (h : k < (prL K S n).length) : ((prL K S n).getD k (0, 0)).1 < ((prL K S n).getD k (0, 0)).2 ∧ ((prL K S n).getD k (0, 0)).2 < n := prI_mem (pget_mem h)

theorem c15_tries (l : Launch) (E : En) (ads : Nat → Nat) (ivs : Nat → Int32) (o1s : Nat → Int32) (o2s : Nat → Int32) (ofs : Nat → Int32) (ad : Nat → Nat) (iv : Nat → Int32) (ch : Nat → Int32) (rd : Nat → Int32) (tp : Nat → Int32) (rf : Nat → Int32) (hd : Nat → Option Nat) (gr : Nat) (dy : Nat) (im : Option Nat) (adn : Nat → Nat) (ivn : Nat → Int32) (hrn : Nat → Int32) (csn : Nat → Int32) (adr : Nat → Nat) (ivr : Nat → Int32) (hrr : Nat → Int32) (csr : Nat → Int32) (Sr : Nat → Int32) (K : Nat → Nat → Int32) (n st Z : Nat) (m : Nat) (hn : ivn 3 = nI n) (hst : ivn 4 = nI st) (hn7 : n ≤ 7) (hs2 : 2 ≤ st) (hs4 : st ≤ 4) (hsym : kSym K n) (hZ : Z < 2 ^ n) (hb5 : bitsN Z 8 ≤ 5) (hc3 : ivs 3 = nI (prL K Z n).length) (hw : ivs 4 = nI (wyN K Z n st m)) (hm : m < 1024) (hP2 : pr2 (prL K Z n) o1s o2s) (hO : (∀ k, k < (prL K Z n).length → ofs k = nI (wyC K Z n st k m))) : CtV l E yX15_tries cX15_tries 5 14 0 0 [.ref (ads 6), .int (nI m), .int (nI Z)] (sW E ads ivs o1s o2s ofs (ad 11) ++ (xW E ad iv ch rd tp rf hd (adn 10) (adr 10) gr dy im ++ (tW E adn ivn hrn csn (sK K) ++ (tW E adr ivr hrr csr Sr)))) (fun (u : (Nat → Int32) × (Nat → Int32) × (Nat → Int32) × (Nat → Int32) × (Nat → Int32)) => ∀ k, k < (prL K Z n).length → u.1 k = nI (wyC K Z n st k (m + 1))) (fun (u : (Nat → Int32) × (Nat → Int32) × (Nat → Int32) × (Nat → Int32) × (Nat → Int32)) => sW E ads (va_up ivs 4 (nI (wyN K Z n st (m + 1)))) o1s o2s u.1 (ad 11) ++ (xW E ad iv ch rd tp rf hd (adn 10) (adr 10) gr dy im ++ (tW E adn ivn hrn csn (sK K) ++ (tW E adr u.2.1 u.2.2.1 u.2.2.2.1 u.2.2.2.2)))) := by
  have h28 : 2 ^ n ≤ 2 ^ 7 := Nat.pow_le_pow_right (by decide) hn7
  have hl10 : (prL K Z n).length ≤ 10 := pr_10 (by omega) hb5 hn7 (Nat.le_refl n)
  have hp10 : 2 ^ (prL K Z n).length ≤ 2 ^ 10 := Nat.pow_le_pow_right (by decide) hl10
  have hp1 := Nat.two_pow_pos (prL K Z n).length
  refine CtV.of (by decide +kernel) (Nat.le_of_ble_eq_true rfl) ?_
  intro pR eR sR mR aR bR tR cR AR ls QR hxR hbR hmlR hts hown hlk hnm hA hK hI hl hret
  have hl : lv_has ls 5 [(0, .ref (ads 6)), (1, .int (nI m)), (2, .int (nI Z))] := hl
  refine lv_aload_n hxR hbR dX15_tries_0 rfl (lv_at hl 0 rfl) ?_
  refine r_get hxR hbR hts hown hK hI okX15 (ci := 14) rfl 0 (he_l sW_o) 5 (by decide) q1367 rfl (v := .ref (ad 11)) rfl dX15_tries_1 ?_
  refine r_getN (host := RX0) hxR hbR hts hown hK hI okX0 (ci := 0) rfl (4 + 8) (he_r (Nat.le_of_ble_eq_true rfl) (Nat.le_of_ble_eq_true rfl) (he_l xW_o)) 2 (by decide) (by decide) rfl (v := .ref (adr 10)) rfl dX15_tries_4 ?_
  refine lv_aload_n hxR hbR dX15_tries_7 rfl (lv_at hl 0 rfl) ?_
  refine r_get hxR hbR hts hown hK hI okX15 (ci := 14) rfl 0 (he_l sW_o) 5 (by decide) q1367 rfl (v := .ref (ad 11)) rfl dX15_tries_8 ?_
  refine r_getN (host := RX0) hxR hbR hts hown hK hI okX0 (ci := 0) rfl (4 + 8) (he_r (Nat.le_of_ble_eq_true rfl) (Nat.le_of_ble_eq_true rfl) (he_l xW_o)) 0 (by decide) (by decide) rfl (v := .ref (adn 10)) rfl dX15_tries_11 ?_
  have hI : wI E AR sR _ _ (tW E adr ivr hrr csr Sr ++ (tW E adn ivn hrn csn (sK K) ++ (sW E ads ivs o1s o2s ofs (ad 11) ++ (xW E ad iv ch rd tp rf hd (adn 10) (adr 10) gr dy im)))) := wI_pick ([sW E ads ivs o1s o2s ofs (ad 11), xW E ad iv ch rd tp rf hd (adn 10) (adr 10) gr dy im, tW E adn ivn hrn csn (sK K), tW E adr ivr hrr csr Sr]) [3, 2, 0, 1] 4 rfl (by decide) hI
  have hI := wI_w app2 hI
  refine kVT (n := 1) (As := [.ref (adn 10)]) (rest := []) (fun w => w ++ (sW E ads ivs o1s o2s ofs (ad 11) ++ (xW E ad iv ch rd tp rf hd (adn 10) (adr 10) gr dy im))) hxR hbR hmlR hts hown hK hA hl.1 (isCtx.suf _) hI (c1_becomes l E adr ivr hrr csr Sr adn ivn hrn csn (sK K)  ) (lw_V q1353 q796 q797 q82 q798) ⟨rfl, by decide +kernel⟩ 0 1 rfl rfl (he_l tW_o) rfl (Nat.le_of_ble_eq_true rfl) (Nat.le_of_ble_eq_true rfl) ⟨Nat.le_of_ble_eq_true rfl, Nat.le_of_ble_eq_true rfl⟩ (Nat.le_of_ble_eq_true rfl) dX15_tries_14 (fun u H locs hp hI hz => ?_)
  have hI := wI_w app2.symm hI
  have hI : wI E AR sR H locs (tW E adr (va_up (va_up (va_up (va_up (va_up (va_up (va_up ivr 3 (ivn 3)) 4 (ivn 4)) 5 (ivn 5)) 6 (ivn 6)) 7 (ivn 7)) 8 (ivn 8)) 9 (ivn 9)) hrn csn (sK K) ++ (tW E adn ivn hrn csn (sK K) ++ (sW E ads ivs o1s o2s ofs (ad 11) ++ (xW E ad iv ch rd tp rf hd (adn 10) (adr 10) gr dy im)))) := hI
  have hI : wI E AR sR _ _ (sW E ads ivs o1s o2s ofs (ad 11) ++ (xW E ad iv ch rd tp rf hd (adn 10) (adr 10) gr dy im ++ (tW E adn ivn hrn csn (sK K) ++ (tW E adr (va_up (va_up (va_up (va_up (va_up (va_up (va_up ivr 3 (ivn 3)) 4 (ivn 4)) 5 (ivn 5)) 6 (ivn 6)) 7 (ivn 7)) 8 (ivn 8)) 9 (ivn 9)) hrn csn (sK K))))) := wI_pick ([tW E adr (va_up (va_up (va_up (va_up (va_up (va_up (va_up ivr 3 (ivn 3)) 4 (ivn 4)) 5 (ivn 5)) 6 (ivn 6)) 7 (ivn 7)) 8 (ivn 8)) 9 (ivn 9)) hrn csn (sK K), tW E adn ivn hrn csn (sK K), sW E ads ivs o1s o2s ofs (ad 11), xW E ad iv ch rd tp rf hd (adn 10) (adr 10) gr dy im]) [2, 3, 1, 0] 4 rfl (by decide) hI
  refine lv_astore_n (lv' := [(3, .ref (adr 10)), (0, .ref (ads 6)), (1, .int (nI m)), (2, .int (nI Z))]) hxR hbR dX15_tries_17 rfl hl (by decide) rfl (fun ls hl => ?_)
  refine lv_iconst (v := 0) hxR hbR dX15_tries_18 (by decide) ?_
  refine lv_istore (lv' := [(4, .int 0), (3, .ref (adr 10)), (0, .ref (ads 6)), (1, .int (nI m)), (2, .int (nI Z))]) hxR hbR dX15_tries_19 hl (by decide) rfl (fun ls hl => ?_)
  have lp_21 : ∀ (fu : Nat) (k : Nat) (Sx : Nat → Int32), (k ≤ (prL K Z n).length) → (Sx = sK (wyK K (prL K Z n) m k)) → (prL K Z n).length - k < fu → ∀ (H : Heap) (locs : List Loc), wI E AR sR H locs (sW E ads ivs o1s o2s ofs (ad 11) ++ (xW E ad iv ch rd tp rf hd (adn 10) (adr 10) gr dy im ++ (tW E adn ivn hrn csn (sK K) ++ (tW E adr (va_up (va_up (va_up (va_up (va_up (va_up (va_up ivr 3 (ivn 3)) 4 (ivn 4)) 5 (ivn 5)) 6 (ivn 6)) 7 (ivn 7)) 8 (ivn 8)) 9 (ivn 9)) hrn csn Sx)))) → ∀ ls : Array Slot, lv_has ls 5 [(0, .ref (ads 6)), (1, .int (nI m)), (2, .int (nI Z)), (3, .ref (adr 10)), (4, .int (nI k))] → W pR l eR (rmF 14 0 0) sR mR aR bR tR cR H locs 0 0 QR (F0 mR 21 ls []) := by
    intro fu
    induction fu with
    | zero =>
      intro k Sx hk hX hfu
      exact absurd hfu (Nat.not_lt_zero _)
    | succ fu ih_21 =>
      intro k Sx hk hX hfu H locs hI ls hl
      subst hX
      refine lv_iload hxR hbR dX15_tries_21 (lv_at hl 4 rfl) ?_
      refine lv_aload_n hxR hbR dX15_tries_23 rfl (lv_at hl 0 rfl) ?_
      refine r_get hxR hbR hts hown hK hI okX15 (ci := 14) rfl 0 (he_l sW_o) 3 (by decide) q1364 rfl (v := .int (nI ((prL K Z n).length))) (al hc3) dX15_tries_24 ?_
      refine lv_icmp_ge (tgt := 64) hxR hbR dX15_tries_27 (by decide) (fun c_27 => ?_) (fun c_27 => ?_)
      · skip
        have c_27 : ((prL K Z n).length) ≤ k := (n_le (a := ((prL K Z n).length)) (b := k) (by omega) (by omega)).mp c_27
        refine lv_aload_n hxR hbR dX15_tries_64 rfl (lv_at hl 3 rfl) ?_
        refine lv_iload_n hxR hbR dX15_tries_65 rfl (lv_at hl 2 rfl) ?_
        have hI := wI_w app3 hI
        refine kSNI (n := 2) (As := [.ref (adr 10), .int (nI Z)]) (rest := []) (fun w => (sW E ads ivs o1s o2s ofs (ad 11) ++ (xW E ad iv ch rd tp rf hd (adn 10) (adr 10) gr dy im ++ (tW E adn ivn hrn csn (sK K)))) ++ w) hxR hbR hmlR hts hown hK hA hl.1 (isCtx.pre _) hI (c0_hasGroup l E adr (va_up (va_up (va_up (va_up (va_up (va_up (va_up ivr 3 (ivn 3)) 4 (ivn 4)) 5 (ivn 5)) 6 (ivn 6)) 7 (ivn 7)) 8 (ivn 8)) 9 (ivn 9)) hrn csn (wyK K (prL K Z n) m k) n st Z hn hst (by first | omega | with_reducible assumption) (by first | omega | with_reducible assumption) (by first | omega | with_reducible assumption)) (host := RX0) q1357 q81 (by decide) q1356 (by decide +kernel) rfl (Nat.le_of_ble_eq_true rfl) (Nat.le_of_ble_eq_true rfl) ⟨Nat.le_of_ble_eq_true rfl, Nat.le_of_ble_eq_true rfl⟩ (Nat.le_of_ble_eq_true rfl) dX15_tries_66 (fun r_66 u H locs hp hI hz => ?_)
        have hI := wI_w app3.symm hI
        have hI : wI E AR sR H locs (sW E ads ivs o1s o2s ofs (ad 11) ++ (xW E ad iv ch rd tp rf hd (adn 10) (adr 10) gr dy im ++ (tW E adn ivn hrn csn (sK K) ++ (tW E adr (va_up (va_up (va_up (va_up (va_up (va_up (va_up ivr 3 (ivn 3)) 4 (ivn 4)) 5 (ivn 5)) 6 (ivn 6)) 7 (ivn 7)) 8 (ivn 8)) 9 (ivn 9)) hrn csn (sK (wyK K (prL K Z n) m k)))))) := hI
        have hp : r_66 = b2i (grB (wyK K (prL K Z n) m k) n n Z st) := hp
        have hr_66 := hp
        rcases b2i_cases hr_66 with ⟨c_66, rfl⟩ | ⟨c_66, rfl⟩
        · skip
          have c_66 : grB (wyK K (prL K Z n) m k) n n Z st = true := c_66
          refine lv_if_eq (tgt := 73) hxR hbR dX15_tries_69 (by decide) (fun c => absurd c (by decide)) (fun _ => ?_)
          have hI : wI E AR sR H locs (sW E ads (va_up ivs 4 (nI (wyN K Z n st (m + 1)))) o1s o2s ofs (ad 11) ++ (xW E ad iv ch rd tp rf hd (adn 10) (adr 10) gr dy im ++ (tW E adn ivn hrn csn (sK K) ++ (tW E adr (va_up (va_up (va_up (va_up (va_up (va_up (va_up ivr 3 (ivn 3)) 4 (ivn 4)) 5 (ivn 5)) 6 (ivn 6)) 7 (ivn 7)) 8 (ivn 8)) 9 (ivn 9)) hrn csn (sK (wyK K (prL K Z n) m k)))))) := by rw [show wyN K Z n st (m + 1) = wyN K Z n st m by rw [wyN, wyN_no hsym (by rw [show (prL K Z n).length = k by omega]; exact c_66)]; rfl, va_up_id hw]; exact hI
          exact hret (ofs, (va_up (va_up (va_up (va_up (va_up (va_up (va_up ivr 3 (ivn 3)) 4 (ivn 4)) 5 (ivn 5)) 6 (ivn 6)) 7 (ivn 7)) 8 (ivn 8)) 9 (ivn 9)), hrn, csn, sK (wyK K (prL K Z n) m k)) _ _ _ _ _ _ dX15_tries_72 hI (by show ∀ k, k < (prL K Z n).length → ofs k = nI (wyC K Z n st k (m + 1)); intro z hz; rw [wyC, wyN_no hsym (by rw [show (prL K Z n).length = k by omega]; exact c_66)]; exact hO z hz) (Nat.le_of_ble_eq_true rfl) (Nat.le_of_ble_eq_true rfl)
        · skip
          have c_66 : grB (wyK K (prL K Z n) m k) n n Z st = false := c_66
          refine lv_if_eq (tgt := 73) hxR hbR dX15_tries_69 (by decide) (fun _ => ?_) (fun c => absurd c (by decide))
          refine lv_aload_n hxR hbR dX15_tries_73 rfl (lv_at hl 0 rfl) ?_
          refine lv_dup hxR hbR dX15_tries_74 rfl ?_
          refine r_get hxR hbR hts hown hK hI okX15 (ci := 14) rfl 0 (he_l sW_o) 4 (by decide) q1365 rfl (v := .int (nI (wyN K Z n st m))) (al hw) dX15_tries_75 ?_
          refine lv_iconst (v := 1) hxR hbR dX15_tries_78 (by decide) ?_
          refine lv_iadd hxR hbR dX15_tries_79 ?_
          refine lv_as (y := nI ((wyN K Z n st m) + 1)) (nI_add (wyN K Z n st m) 1) ?_
          refine lv_as (y := nI (wyN K Z n st (m + 1))) (by rw [wyN, wyN_yes hsym (by rw [show (prL K Z n).length = k by omega]; exact c_66)]; rfl) ?_
          have hyes : wyO K Z n st m = true := wyN_yes hsym (by rw [show (prL K Z n).length = k by omega]; exact c_66)
          refine r_put (v := .int (nI (wyN K Z n st (m + 1)))) (ws1 := sW E ads (va_up ivs 4 (nI (wyN K Z n st (m + 1)))) o1s o2s ofs (ad 11) ++ (xW E ad iv ch rd tp rf hd (adn 10) (adr 10) gr dy im ++ (tW E adn ivn hrn csn (sK K) ++ (tW E adr (va_up (va_up (va_up (va_up (va_up (va_up (va_up ivr 3 (ivn 3)) 4 (ivn 4)) 5 (ivn 5)) 6 (ivn 6)) 7 (ivn 7)) 8 (ivn 8)) 9 (ivn 9)) hrn csn (sK (wyK K (prL K Z n) m k)))))) hxR hbR hts hown hK hI okX15 (ci := 14) rfl 0 (he_l sW_o) 4 (by decide) q1365 rfl rfl rfl rfl (Nat.le_of_ble_eq_true rfl) (hw_l (Nat.le_of_ble_eq_true rfl) sW_i4) dX15_tries_80 (fun H locs hI => ?_)
          refine lv_iconst (v := 0) hxR hbR dX15_tries_83 (by decide) ?_
          refine lv_istore (lv' := [(4, .int 0), (0, .ref (ads 6)), (1, .int (nI m)), (2, .int (nI Z)), (3, .ref (adr 10))]) hxR hbR dX15_tries_84 hl (by decide) rfl (fun ls hl => ?_)
          have lp_86 : ∀ (fu : Nat) (j : Nat) (fo : Nat → Int32), (j ≤ (prL K Z n).length) → (∀ z, z < j → fo z = nI (wyC K Z n st z (m + 1))) → (∀ z, j ≤ z → z < (prL K Z n).length → fo z = nI (wyC K Z n st z m)) → (prL K Z n).length - j < fu → ∀ (H : Heap) (locs : List Loc), wI E AR sR H locs (sW E ads (va_up ivs 4 (nI (wyN K Z n st (m + 1)))) o1s o2s fo (ad 11) ++ (xW E ad iv ch rd tp rf hd (adn 10) (adr 10) gr dy im ++ (tW E adn ivn hrn csn (sK K) ++ (tW E adr (va_up (va_up (va_up (va_up (va_up (va_up (va_up ivr 3 (ivn 3)) 4 (ivn 4)) 5 (ivn 5)) 6 (ivn 6)) 7 (ivn 7)) 8 (ivn 8)) 9 (ivn 9)) hrn csn (sK (wyK K (prL K Z n) m k)))))) → ∀ ls : Array Slot, lv_has ls 5 [(0, .ref (ads 6)), (1, .int (nI m)), (2, .int (nI Z)), (3, .ref (adr 10)), (4, .int (nI j))] → W pR l eR (rmF 14 0 0) sR mR aR bR tR cR H locs 0 0 QR (F0 mR 86 ls []) := by
            intro fu
            induction fu with
            | zero =>
              intro j fo hj hof1 hof2 hfu
              exact absurd hfu (Nat.not_lt_zero _)
            | succ fu ih_86 =>
              intro j fo hj hof1 hof2 hfu H locs hI ls hl
              refine lv_iload hxR hbR dX15_tries_86 (lv_at hl 4 rfl) ?_
              refine lv_aload_n hxR hbR dX15_tries_88 rfl (lv_at hl 0 rfl) ?_
              refine r_get hxR hbR hts hown hK hI okX15 (ci := 14) rfl 0 (he_l sW_o) 3 (by decide) q1364 rfl (v := .int (nI ((prL K Z n).length))) (al (up_n (by decide) hc3)) dX15_tries_89 ?_
              refine lv_icmp_ge (tgt := 125) hxR hbR dX15_tries_92 (by decide) (fun c_92 => ?_) (fun c_92 => ?_)
              · skip
                have c_92 : ((prL K Z n).length) ≤ j := (n_le (a := ((prL K Z n).length)) (b := j) (by omega) (by omega)).mp c_92
                exact hret (fo, (va_up (va_up (va_up (va_up (va_up (va_up (va_up ivr 3 (ivn 3)) 4 (ivn 4)) 5 (ivn 5)) 6 (ivn 6)) 7 (ivn 7)) 8 (ivn 8)) 9 (ivn 9)), hrn, csn, sK (wyK K (prL K Z n) m k)) _ _ _ _ _ _ dX15_tries_125 hI (by show ∀ k, k < (prL K Z n).length → fo k = nI (wyC K Z n st k (m + 1)); exact fun z hz => hof1 z (by omega)) (Nat.le_of_ble_eq_true rfl) (Nat.le_of_ble_eq_true rfl)
              · skip
                have c_92 : j < ((prL K Z n).length) := Nat.lt_of_not_le (fun zz => c_92 ((n_le (a := ((prL K Z n).length)) (b := j) (by omega) (by omega)).mpr zz))
                refine lv_aload_n hxR hbR dX15_tries_95 rfl (lv_at hl 0 rfl) ?_
                refine r_get hxR hbR hts hown hK hI okX15 (ci := 14) rfl 0 (he_l sW_o) 2 (by decide) q1363 rfl (v := .ref (ads 2)) rfl dX15_tries_96 ?_
                refine lv_iload hxR hbR dX15_tries_99 (lv_at hl 4 rfl) ?_
                refine lv_dup2_11 hxR hbR dX15_tries_101 rfl rfl ?_
                refine r_iald hxR hbR hK hI 3 (n := 10) (J := j) (f := fo) (v := nI (wyC K Z n st j m)) (he_l (sW_g2 rfl)) (by omega) (by decide) (hof2 _ (Nat.le_refl j) (by omega)) dX15_tries_102 ?_
                refine lv_iload_n hxR hbR dX15_tries_103 rfl (lv_at hl 1 rfl) ?_
                refine lv_iload hxR hbR dX15_tries_104 (lv_at hl 4 rfl) ?_
                refine kSNI (n := 2) (As := [.int (nI m), .int (nI j)]) (rest := [.int (nI (wyC K Z n st j m)), .int (nI j), .ref (ads 2)]) (fun w => w ++ (sW E ads (va_up ivs 4 (nI (wyN K Z n st (m + 1)))) o1s o2s fo (ad 11) ++ (xW E ad iv ch rd tp rf hd (adn 10) (adr 10) gr dy im ++ (tW E adn ivn hrn csn (sK K) ++ (tW E adr (va_up (va_up (va_up (va_up (va_up (va_up (va_up ivr 3 (ivn 3)) 4 (ivn 4)) 5 (ivn 5)) 6 (ivn 6)) 7 (ivn 7)) 8 (ivn 8)) 9 (ivn 9)) hrn csn (sK (wyK K (prL K Z n) m k))))))) hxR hbR hmlR hts hown hK hA hl.1 (isCtx.suf _) hI (c0_has l E  m j (by omega) (by omega)) (host := RX0) q661 q81 (by decide) q660 (by decide +kernel) rfl (Nat.le_of_ble_eq_true rfl) (Nat.le_of_ble_eq_true rfl) ⟨Nat.le_of_ble_eq_true rfl, Nat.le_of_ble_eq_true rfl⟩ (Nat.le_of_ble_eq_true rfl) dX15_tries_106 (fun r_106 u H locs hp hI hz => ?_)
                have hI : wI E AR sR H locs (sW E ads (va_up ivs 4 (nI (wyN K Z n st (m + 1)))) o1s o2s fo (ad 11) ++ (xW E ad iv ch rd tp rf hd (adn 10) (adr 10) gr dy im ++ (tW E adn ivn hrn csn (sK K) ++ (tW E adr (va_up (va_up (va_up (va_up (va_up (va_up (va_up ivr 3 (ivn 3)) 4 (ivn 4)) 5 (ivn 5)) 6 (ivn 6)) 7 (ivn 7)) 8 (ivn 8)) 9 (ivn 9)) hrn csn (sK (wyK K (prL K Z n) m k)))))) := hI
                have hp : r_106 = b2i (m.testBit j) := hp
                have hr_106 := hp
                rcases b2i_cases hr_106 with ⟨c_106, rfl⟩ | ⟨c_106, rfl⟩
                · skip
                  have c_106 : m.testBit j = true := c_106
                  refine lv_if_eq (tgt := 116) hxR hbR dX15_tries_109 (by decide) (fun c => absurd c (by decide)) (fun _ => ?_)
                  refine lv_iconst (v := 1) hxR hbR dX15_tries_112 (by decide) ?_
                  refine lv_goto (tgt := 117) hxR hbR dX15_tries_113 (by decide) ?_
                  refine lv_iadd hxR hbR dX15_tries_117 ?_
                  refine lv_as (y := nI ((wyC K Z n st j m) + 1)) (nI_add (wyC K Z n st j m) 1) ?_
                  refine r_iast (ws1 := sW E ads (va_up ivs 4 (nI (wyN K Z n st (m + 1)))) o1s o2s (va_up fo j (nI ((wyC K Z n st j m) + 1))) (ad 11) ++ (xW E ad iv ch rd tp rf hd (adn 10) (adr 10) gr dy im ++ (tW E adn ivn hrn csn (sK K) ++ (tW E adr (va_up (va_up (va_up (va_up (va_up (va_up (va_up ivr 3 (ivn 3)) 4 (ivn 4)) 5 (ivn 5)) 6 (ivn 6)) 7 (ivn 7)) 8 (ivn 8)) 9 (ivn 9)) hrn csn (sK (wyK K (prL K Z n) m k)))))) hxR hbR hK hI 3 (n := 10) (J := j) (f := fo) (he_l (sW_g2 rfl)) (by omega) (by decide) (hw_l (Nat.le_of_ble_eq_true rfl) sW_a2) dX15_tries_118 (fun H locs hI => ?_)
                  refine lv_iinc (v := nI (j + 1)) (lv' := [(4, .int (nI (j + 1))), (0, .ref (ads 6)), (1, .int (nI m)), (2, .int (nI Z)), (3, .ref (adr 10))]) hxR hbR dX15_tries_119 hl (k := 4) rfl (show nI j + 1 = nI (j + 1) from nI_add _ 1) (by decide) rfl (fun ls hl => ?_)
                  refine lv_goto (tgt := 86) hxR hbR dX15_tries_122 (by decide) ?_
                  exact ih_86 (j + 1) (va_up fo j (nI ((wyC K Z n st j m) + 1))) (by first | omega | with_reducible assumption) (fun z hz => by by_cases e9 : z = j; (subst e9; rw [va_up_s, wyC, hyes, bit_mod, c_106]; rfl); exact (va_up_n e9).trans (hof1 z (by omega))) (fun z h1 h2 => (va_up_n (by omega)).trans (hof2 z (by omega) h2)) (by omega) _ _ hI _ (lv_sub hl [1, 2, 3, 4, 0] rfl)
                · skip
                  have c_106 : m.testBit j = false := c_106
                  refine lv_if_eq (tgt := 116) hxR hbR dX15_tries_109 (by decide) (fun _ => ?_) (fun c => absurd c (by decide))
                  refine lv_iconst (v := 0) hxR hbR dX15_tries_116 (by decide) ?_
                  refine lv_iadd hxR hbR dX15_tries_117 ?_
                  refine lv_as (y := nI (wyC K Z n st j m)) (nI_add (wyC K Z n st j m) 0) ?_
                  refine r_iast (ws1 := sW E ads (va_up ivs 4 (nI (wyN K Z n st (m + 1)))) o1s o2s (va_up fo j (nI (wyC K Z n st j m))) (ad 11) ++ (xW E ad iv ch rd tp rf hd (adn 10) (adr 10) gr dy im ++ (tW E adn ivn hrn csn (sK K) ++ (tW E adr (va_up (va_up (va_up (va_up (va_up (va_up (va_up ivr 3 (ivn 3)) 4 (ivn 4)) 5 (ivn 5)) 6 (ivn 6)) 7 (ivn 7)) 8 (ivn 8)) 9 (ivn 9)) hrn csn (sK (wyK K (prL K Z n) m k)))))) hxR hbR hK hI 3 (n := 10) (J := j) (f := fo) (he_l (sW_g2 rfl)) (by omega) (by decide) (hw_l (Nat.le_of_ble_eq_true rfl) sW_a2) dX15_tries_118 (fun H locs hI => ?_)
                  refine lv_iinc (v := nI (j + 1)) (lv' := [(4, .int (nI (j + 1))), (0, .ref (ads 6)), (1, .int (nI m)), (2, .int (nI Z)), (3, .ref (adr 10))]) hxR hbR dX15_tries_119 hl (k := 4) rfl (show nI j + 1 = nI (j + 1) from nI_add _ 1) (by decide) rfl (fun ls hl => ?_)
                  refine lv_goto (tgt := 86) hxR hbR dX15_tries_122 (by decide) ?_
                  exact ih_86 (j + 1) (va_up fo j (nI (wyC K Z n st j m))) (by first | omega | with_reducible assumption) (fun z hz => by by_cases e9 : z = j; (subst e9; rw [va_up_s, wyC, hyes, bit_mod, c_106]; rfl); exact (va_up_n e9).trans (hof1 z (by omega))) (fun z h1 h2 => (va_up_n (by omega)).trans (hof2 z (by omega) h2)) (by omega) _ _ hI _ (lv_sub hl [1, 2, 3, 4, 0] rfl)
          exact lp_86 _ 0 ofs (by first | omega | with_reducible assumption) (fun z h => absurd h (Nat.not_lt_zero z)) (fun z _ hz => hO z hz) (Nat.lt_succ_self _) _ _ hI _ (lv_sub hl [1, 2, 3, 4, 0] rfl)
      · skip
        have c_27 : k < ((prL K Z n).length) := Nat.lt_of_not_le (fun zz => c_27 ((n_le (a := ((prL K Z n).length)) (b := k) (by omega) (by omega)).mpr zz))
        refine lv_iload_n hxR hbR dX15_tries_30 rfl (lv_at hl 1 rfl) ?_
        refine lv_iload hxR hbR dX15_tries_31 (lv_at hl 4 rfl) ?_
        refine kSNI (n := 2) (As := [.int (nI m), .int (nI k)]) (rest := []) (fun w => w ++ (sW E ads ivs o1s o2s ofs (ad 11) ++ (xW E ad iv ch rd tp rf hd (adn 10) (adr 10) gr dy im ++ (tW E adn ivn hrn csn (sK K) ++ (tW E adr (va_up (va_up (va_up (va_up (va_up (va_up (va_up ivr 3 (ivn 3)) 4 (ivn 4)) 5 (ivn 5)) 6 (ivn 6)) 7 (ivn 7)) 8 (ivn 8)) 9 (ivn 9)) hrn csn (sK (wyK K (prL K Z n) m k))))))) hxR hbR hmlR hts hown hK hA hl.1 (isCtx.suf _) hI (c0_has l E  m k (by omega) (by omega)) (host := RX0) q661 q81 (by decide) q660 (by decide +kernel) rfl (Nat.le_of_ble_eq_true rfl) (Nat.le_of_ble_eq_true rfl) ⟨Nat.le_of_ble_eq_true rfl, Nat.le_of_ble_eq_true rfl⟩ (Nat.le_of_ble_eq_true rfl) dX15_tries_33 (fun r_33 u H locs hp hI hz => ?_)
        have hI : wI E AR sR H locs (sW E ads ivs o1s o2s ofs (ad 11) ++ (xW E ad iv ch rd tp rf hd (adn 10) (adr 10) gr dy im ++ (tW E adn ivn hrn csn (sK K) ++ (tW E adr (va_up (va_up (va_up (va_up (va_up (va_up (va_up ivr 3 (ivn 3)) 4 (ivn 4)) 5 (ivn 5)) 6 (ivn 6)) 7 (ivn 7)) 8 (ivn 8)) 9 (ivn 9)) hrn csn (sK (wyK K (prL K Z n) m k)))))) := hI
        have hp : r_33 = b2i (m.testBit k) := hp
        have hr_33 := hp
        rcases b2i_cases hr_33 with ⟨c_33, rfl⟩ | ⟨c_33, rfl⟩
        · skip
          have c_33 : m.testBit k = true := c_33
          refine lv_if_eq (tgt := 58) hxR hbR dX15_tries_36 (by decide) (fun c => absurd c (by decide)) (fun _ => ?_)
          refine lv_aload_n hxR hbR dX15_tries_39 rfl (lv_at hl 3 rfl) ?_
          refine lv_aload_n hxR hbR dX15_tries_40 rfl (lv_at hl 0 rfl) ?_
          refine r_get hxR hbR hts hown hK hI okX15 (ci := 14) rfl 0 (he_l sW_o) 0 (by decide) q1361 rfl (v := .ref (ads 0)) rfl dX15_tries_41 ?_
          refine lv_iload hxR hbR dX15_tries_44 (lv_at hl 4 rfl) ?_
          refine r_iald hxR hbR hK hI 1 (n := 10) (J := k) (f := o1s) (v := nI (((prL K Z n).getD k (0, 0)).1)) (he_l (sW_g0 rfl)) (by omega) (by decide) (hP2 _ (by omega)).1 dX15_tries_46 ?_
          refine lv_aload_n hxR hbR dX15_tries_47 rfl (lv_at hl 0 rfl) ?_
          refine r_get hxR hbR hts hown hK hI okX15 (ci := 14) rfl 0 (he_l sW_o) 1 (by decide) q1362 rfl (v := .ref (ads 1)) rfl dX15_tries_48 ?_
          refine lv_iload hxR hbR dX15_tries_51 (lv_at hl 4 rfl) ?_
          refine r_iald hxR hbR hK hI 2 (n := 10) (J := k) (f := o2s) (v := nI (((prL K Z n).getD k (0, 0)).2)) (he_l (sW_g1 rfl)) (by omega) (by decide) (hP2 _ (by omega)).2 dX15_tries_53 ?_
          refine lv_iconst (v := 0) hxR hbR dX15_tries_54 (by decide) ?_
          have hI := wI_w app3 hI
          refine kVV (n := 3) (As := [.int (nI (((prL K Z n).getD k (0, 0)).1)), .int (nI (((prL K Z n).getD k (0, 0)).2)), .int 0]) (rest := []) (fun w => (sW E ads ivs o1s o2s ofs (ad 11) ++ (xW E ad iv ch rd tp rf hd (adn 10) (adr 10) gr dy im ++ (tW E adn ivn hrn csn (sK K)))) ++ w) hxR hbR hmlR hts hown hK hA hl.1 (isCtx.pre _) hI (c1_knows l E adr (va_up (va_up (va_up (va_up (va_up (va_up (va_up ivr 3 (ivn 3)) 4 (ivn 4)) 5 (ivn 5)) 6 (ivn 6)) 7 (ivn 7)) 8 (ivn 8)) 9 (ivn 9)) hrn csn (wyK K (prL K Z n) m k) (((prL K Z n).getD k (0, 0)).1) (((prL K Z n).getD k (0, 0)).2) 0 (by have := pr_mem (K := K) (S := Z) (n := n) (k := k) (by omega); omega) (by have := pr_mem (K := K) (S := Z) (n := n) (k := k) (by omega); omega)) (lw_V q1354 q748 q749 q82 q750) ⟨rfl, by decide +kernel⟩ 0 1 rfl rfl tW_o rfl (Nat.le_of_ble_eq_true rfl) (Nat.le_of_ble_eq_true rfl) ⟨Nat.le_of_ble_eq_true rfl, Nat.le_of_ble_eq_true rfl⟩ (Nat.le_of_ble_eq_true rfl) dX15_tries_55 (fun u H locs hp hI hz => ?_)
          have hI := wI_w app3.symm hI
          have hI : wI E AR sR H locs (sW E ads ivs o1s o2s ofs (ad 11) ++ (xW E ad iv ch rd tp rf hd (adn 10) (adr 10) gr dy im ++ (tW E adn ivn hrn csn (sK K) ++ (tW E adr (va_up (va_up (va_up (va_up (va_up (va_up (va_up ivr 3 (ivn 3)) 4 (ivn 4)) 5 (ivn 5)) 6 (ivn 6)) 7 (ivn 7)) 8 (ivn 8)) 9 (ivn 9)) hrn csn (sK (knF (wyK K (prL K Z n) m k) (((prL K Z n).getD k (0, 0)).1) (((prL K Z n).getD k (0, 0)).2) 0)))))) := hI
          refine lv_iinc (v := nI (k + 1)) (lv' := [(4, .int (nI (k + 1))), (0, .ref (ads 6)), (1, .int (nI m)), (2, .int (nI Z)), (3, .ref (adr 10))]) hxR hbR dX15_tries_58 hl (k := 4) rfl (show nI k + 1 = nI (k + 1) from nI_add _ 1) (by decide) rfl (fun ls hl => ?_)
          refine lv_goto (tgt := 21) hxR hbR dX15_tries_61 (by decide) ?_
          exact ih_21 (k + 1) (sK (knF (wyK K (prL K Z n) m k) (((prL K Z n).getD k (0, 0)).1) (((prL K Z n).getD k (0, 0)).2) 0)) (by first | omega | with_reducible assumption) (by first | rw [wyK_n c_33] | rw [wyK_y c_33]) (by omega) _ _ hI _ (lv_sub hl [1, 2, 3, 4, 0] rfl)
        · skip
          have c_33 : m.testBit k = false := c_33
          refine lv_if_eq (tgt := 58) hxR hbR dX15_tries_36 (by decide) (fun _ => ?_) (fun c => absurd c (by decide))
          refine lv_iinc (v := nI (k + 1)) (lv' := [(4, .int (nI (k + 1))), (0, .ref (ads 6)), (1, .int (nI m)), (2, .int (nI Z)), (3, .ref (adr 10))]) hxR hbR dX15_tries_58 hl (k := 4) rfl (show nI k + 1 = nI (k + 1) from nI_add _ 1) (by decide) rfl (fun ls hl => ?_)
          refine lv_goto (tgt := 21) hxR hbR dX15_tries_61 (by decide) ?_
          exact ih_21 (k + 1) (sK (wyK K (prL K Z n) m k)) (by first | omega | with_reducible assumption) (by first | rw [wyK_n c_33] | rw [wyK_y c_33]) (by omega) _ _ hI _ (lv_sub hl [1, 2, 3, 4, 0] rfl)
  exact lp_21 _ 0 (sK K) (by first | omega | with_reducible assumption) rfl (Nat.lt_succ_self _) _ _ hI _ (lv_sub hl [2, 3, 4, 1, 0] rfl)

theorem c15_init (l : Launch) (E : En) (oo : Nat) (ad : Nat → Nat) (iv : Nat → Int32) (ch : Nat → Int32) (rd : Nat → Int32) (tp : Nat → Int32) (rf : Nat → Int32) (hd : Nat → Option Nat) (gr : Nat) (dy : Nat) (im : Option Nat) (adn : Nat → Nat) (ivn : Nat → Int32) (hrn : Nat → Int32) (csn : Nat → Int32) (adr : Nat → Nat) (ivr : Nat → Int32) (hrr : Nat → Int32) (csr : Nat → Int32) (Sr : Nat → Int32) (K : Nat → Nat → Int32) (n st Z : Nat)  (hn : ivn 3 = nI n) (hst : ivn 4 = nI st) (hn7 : n ≤ 7) (hs2 : 2 ≤ st) (hs4 : st ≤ 4) (hsym : kSym K n) (hZ : Z < 2 ^ n) (hb5 : bitsN Z 8 ≤ 5) : CtV l E yX15_init cX15_init 5 16 3 30 [.ref oo, .ref (ad 11), .int (nI Z)] ([(oo, .inr (14, [.null, .null, .null, .int 0, .int 0, .null]))] ++ (xW E ad iv ch rd tp rf hd (adn 10) (adr 10) gr dy im ++ (tW E adn ivn hrn csn (sK K) ++ (tW E adr ivr hrr csr Sr)))) (fun (u : (Nat → Nat) × (Nat → Int32) × (Nat → Int32) × (Nat → Int32) × (Nat → Int32) × (Nat → Int32) × (Nat → Int32) × (Nat → Int32)) => u.1 6 = oo ∧ pr2 (prL K Z n) u.2.1 u.2.2.1 ∧ ∀ k, k < (prL K Z n).length → u.2.2.2.1 k = nI (wyC K Z n st k (2 ^ (prL K Z n).length))) (fun (u : (Nat → Nat) × (Nat → Int32) × (Nat → Int32) × (Nat → Int32) × (Nat → Int32) × (Nat → Int32) × (Nat → Int32) × (Nat → Int32)) => xW E ad iv ch rd tp rf hd (adn 10) (adr 10) gr dy im ++ (tW E adn ivn hrn csn (sK K) ++ (tW E adr u.2.2.2.2.1 u.2.2.2.2.2.1 u.2.2.2.2.2.2.1 u.2.2.2.2.2.2.2 ++ (sW E u.1 (va_up (va_up siv0 3 (nI ((prL K Z n).length))) 4 (nI (wyN K Z n st (2 ^ (prL K Z n).length)))) u.2.1 u.2.2.1 u.2.2.2.1 (ad 11))))) := by
  have h28 : 2 ^ n ≤ 2 ^ 7 := Nat.pow_le_pow_right (by decide) hn7
  have hl10 : (prL K Z n).length ≤ 10 := pr_10 (by omega) hb5 hn7 (Nat.le_refl n)
  have hp10 : 2 ^ (prL K Z n).length ≤ 2 ^ 10 := Nat.pow_le_pow_right (by decide) hl10
  have hp1 := Nat.two_pow_pos (prL K Z n).length
  refine CtV.of (by decide +kernel) (Nat.le_of_ble_eq_true rfl) ?_
  intro pR eR sR mR aR bR tR cR AR ls QR hxR hbR hmlR hts hown hlk hnm hA hK hI hl hret
  have hl : lv_has ls 5 [(0, .ref oo), (1, .ref (ad 11)), (2, .int (nI Z))] := hl
  refine lv_aload_n hxR hbR dX15_init_0 rfl (lv_at hl 0 rfl) ?_
  refine lv_aload_n hxR hbR dX15_init_1 rfl (lv_at hl 1 rfl) ?_
  refine r_putF (v := .ref (ad 11)) (ws1 := [(oo, .inr (14, [.null, .null, .null, .int 0, .int 0, .ref (ad 11)]))] ++ (xW E ad iv ch rd tp rf hd (adn 10) (adr 10) gr dy im ++ (tW E adn ivn hrn csn (sK K) ++ (tW E adr ivr hrr csr Sr)))) hxR hbR hts hown hK hI okX15 (ci := 14) rfl 0 (he_l rfl) 5 (by decide) q1367 rfl rfl hnm rfl rfl rfl (Nat.le_of_ble_eq_true rfl) (hw_l (Nat.le_of_ble_eq_true rfl) rfl) dX15_init_2 (fun H locs hI => ?_)
  refine lv_aload_n hxR hbR dX15_init_5 rfl (lv_at hl 0 rfl) ?_
  refine W.objInit hxR hbR hown (hts _ q1346) (hts _ q123) (hts _ q124) rfl (by rw [hmlR]; exact hl.1) rfl dX15_init_6 (Nat.le_of_ble_eq_true rfl) (Nat.le_of_ble_eq_true rfl) ?_
  refine W.eq (g2 := F0 mR 9 ls []) rfl ?_
  refine lv_aload_n hxR hbR dX15_init_9 rfl (lv_at hl 0 rfl) ?_
  refine lv_bipush (v := 10) hxR hbR dX15_init_10 (by decide) ?_
  refine r_newa (n := 10) (a0 := (10, .inl (fun _ => 0))) hxR hbR hts hA hK hI (atype := .int) rfl q181 0 rfl (fun h => h) (fun _ => rfl) (by decide) (Nat.le_of_ble_eq_true rfl) (Nat.le_of_ble_eq_true rfl) (Nat.le_of_ble_eq_true rfl) dX15_init_12 (fun q_12 H hI => ?_)
  have hI := wI_w app4.symm hI
  have hI : wI E AR sR H _ ([(oo, .inr (14, [.null, .null, .null, .int 0, .int 0, .ref (ad 11)]))] ++ (xW E ad iv ch rd tp rf hd (adn 10) (adr 10) gr dy im ++ (tW E adn ivn hrn csn (sK K) ++ (tW E adr ivr hrr csr Sr ++ ([(q_12, .inl (E.2 0, 10, .inl (fun _ => 0)))]))))) := hI
  refine r_putF (v := .ref q_12) (ws1 := [(oo, .inr (14, [.ref q_12, .null, .null, .int 0, .int 0, .ref (ad 11)]))] ++ (xW E ad iv ch rd tp rf hd (adn 10) (adr 10) gr dy im ++ (tW E adn ivn hrn csn (sK K) ++ (tW E adr ivr hrr csr Sr ++ ([(q_12, .inl (E.2 0, 10, .inl (fun _ => 0)))]))))) hxR hbR hts hown hK hI okX15 (ci := 14) rfl 0 (he_l rfl) 0 (by decide) q1361 rfl rfl hnm rfl rfl rfl (Nat.le_of_ble_eq_true rfl) (hw_l (Nat.le_of_ble_eq_true rfl) rfl) dX15_init_14 (fun H locs hI => ?_)
  refine lv_aload_n hxR hbR dX15_init_17 rfl (lv_at hl 0 rfl) ?_
  refine lv_bipush (v := 10) hxR hbR dX15_init_18 (by decide) ?_
  refine r_newa (n := 10) (a0 := (10, .inl (fun _ => 0))) hxR hbR hts hA hK hI (atype := .int) rfl q181 0 rfl (fun h => h) (fun _ => rfl) (by decide) (Nat.le_of_ble_eq_true rfl) (Nat.le_of_ble_eq_true rfl) (Nat.le_of_ble_eq_true rfl) dX15_init_20 (fun q_20 H hI => ?_)
  have hI := wI_w app5.symm hI
  have hI : wI E AR sR H _ ([(oo, .inr (14, [.ref q_12, .null, .null, .int 0, .int 0, .ref (ad 11)]))] ++ (xW E ad iv ch rd tp rf hd (adn 10) (adr 10) gr dy im ++ (tW E adn ivn hrn csn (sK K) ++ (tW E adr ivr hrr csr Sr ++ ([(q_12, .inl (E.2 0, 10, .inl (fun _ => 0)))] ++ ([(q_20, .inl (E.2 0, 10, .inl (fun _ => 0)))])))))) := hI
  refine r_putF (v := .ref q_20) (ws1 := [(oo, .inr (14, [.ref q_12, .ref q_20, .null, .int 0, .int 0, .ref (ad 11)]))] ++ (xW E ad iv ch rd tp rf hd (adn 10) (adr 10) gr dy im ++ (tW E adn ivn hrn csn (sK K) ++ (tW E adr ivr hrr csr Sr ++ ([(q_12, .inl (E.2 0, 10, .inl (fun _ => 0)))] ++ ([(q_20, .inl (E.2 0, 10, .inl (fun _ => 0)))])))))) hxR hbR hts hown hK hI okX15 (ci := 14) rfl 0 (he_l rfl) 1 (by decide) q1362 rfl rfl hnm rfl rfl rfl (Nat.le_of_ble_eq_true rfl) (hw_l (Nat.le_of_ble_eq_true rfl) rfl) dX15_init_22 (fun H locs hI => ?_)
  refine lv_aload_n hxR hbR dX15_init_25 rfl (lv_at hl 0 rfl) ?_
  refine lv_bipush (v := 10) hxR hbR dX15_init_26 (by decide) ?_
  refine r_newa (n := 10) (a0 := (10, .inl (fun _ => 0))) hxR hbR hts hA hK hI (atype := .int) rfl q181 0 rfl (fun h => h) (fun _ => rfl) (by decide) (Nat.le_of_ble_eq_true rfl) (Nat.le_of_ble_eq_true rfl) (Nat.le_of_ble_eq_true rfl) dX15_init_28 (fun q_28 H hI => ?_)
  have hI := wI_w app6.symm hI
  have hI : wI E AR sR H _ ([(oo, .inr (14, [.ref q_12, .ref q_20, .null, .int 0, .int 0, .ref (ad 11)]))] ++ (xW E ad iv ch rd tp rf hd (adn 10) (adr 10) gr dy im ++ (tW E adn ivn hrn csn (sK K) ++ (tW E adr ivr hrr csr Sr ++ ([(q_12, .inl (E.2 0, 10, .inl (fun _ => 0)))] ++ ([(q_20, .inl (E.2 0, 10, .inl (fun _ => 0)))] ++ ([(q_28, .inl (E.2 0, 10, .inl (fun _ => 0)))]))))))) := hI
  refine r_putF (v := .ref q_28) (ws1 := [(oo, .inr (14, [.ref q_12, .ref q_20, .ref q_28, .int 0, .int 0, .ref (ad 11)]))] ++ (xW E ad iv ch rd tp rf hd (adn 10) (adr 10) gr dy im ++ (tW E adn ivn hrn csn (sK K) ++ (tW E adr ivr hrr csr Sr ++ ([(q_12, .inl (E.2 0, 10, .inl (fun _ => 0)))] ++ ([(q_20, .inl (E.2 0, 10, .inl (fun _ => 0)))] ++ ([(q_28, .inl (E.2 0, 10, .inl (fun _ => 0)))]))))))) hxR hbR hts hown hK hI okX15 (ci := 14) rfl 0 (he_l rfl) 2 (by decide) q1363 rfl rfl hnm rfl rfl rfl (Nat.le_of_ble_eq_true rfl) (hw_l (Nat.le_of_ble_eq_true rfl) rfl) dX15_init_30 (fun H locs hI => ?_)
  have hI : wI E AR sR _ _ ([(oo, .inr (14, [.ref q_12, .ref q_20, .ref q_28, .int 0, .int 0, .ref (ad 11)]))] ++ ([(q_12, .inl (E.2 0, 10, .inl (fun _ => 0)))] ++ ([(q_20, .inl (E.2 0, 10, .inl (fun _ => 0)))] ++ ([(q_28, .inl (E.2 0, 10, .inl (fun _ => 0)))] ++ (xW E ad iv ch rd tp rf hd (adn 10) (adr 10) gr dy im ++ (tW E adn ivn hrn csn (sK K) ++ (tW E adr ivr hrr csr Sr))))))) := wI_pick ([[(oo, .inr (14, [.ref q_12, .ref q_20, .ref q_28, .int 0, .int 0, .ref (ad 11)]))], xW E ad iv ch rd tp rf hd (adn 10) (adr 10) gr dy im, tW E adn ivn hrn csn (sK K), tW E adr ivr hrr csr Sr, [(q_12, .inl (E.2 0, 10, .inl (fun _ => 0)))], [(q_20, .inl (E.2 0, 10, .inl (fun _ => 0)))], [(q_28, .inl (E.2 0, 10, .inl (fun _ => 0)))]]) [0, 4, 5, 6, 1, 2, 3] 7 rfl (by decide) hI
  obtain ⟨ads, ha0, ha1, ha2, ha6⟩ : ∃ ads : Nat → Nat, ads 0 = q_12 ∧ ads 1 = q_20 ∧ ads 2 = q_28 ∧ ads 6 = oo := ⟨fun k => match k with | 0 => q_12 | 1 => q_20 | 2 => q_28 | 6 => oo | _ => 0, rfl, rfl, rfl, rfl⟩
  have hI : wI E AR sR H locs (sW E ads siv0 (fun _ => 0) (fun _ => 0) (fun _ => 0) (ad 11) ++ (xW E ad iv ch rd tp rf hd (adn 10) (adr 10) gr dy im ++ (tW E adn ivn hrn csn (sK K) ++ (tW E adr ivr hrr csr Sr)))) := by unfold sW sOb; rw [ha0, ha1, ha2, ha6]; exact hI
  have hl : lv_has ls 5 [(0, .ref (ads 6)), (1, .ref (ad 11)), (2, .int (nI Z))] := by rw [ha6]; exact hl
  refine lv_iconst (v := 0) hxR hbR dX15_init_33 (by decide) ?_
  refine lv_istore_n (lv' := [(3, .int 0), (0, .ref (ads 6)), (1, .ref (ad 11)), (2, .int (nI Z))]) hxR hbR dX15_init_34 rfl hl (by decide) rfl (fun ls hl => ?_)
  have hI := wI_w (ws' := sW E ads (va_up siv0 3 (nI 0)) (fun _ => 0) (fun _ => 0) (fun _ => 0) (ad 11) ++ (xW E ad iv ch rd tp rf hd (adn 10) (adr 10) gr dy im ++ (tW E adn ivn hrn csn (sK K) ++ (tW E adr ivr hrr csr Sr)))) (by rw [va_up_id (f := siv0) (k := 3) (v := nI 0) rfl]) hI
  have lp_35 : ∀ (fu : Nat) (i : Nat) (c : Nat) (p1 : Nat → Int32) (p2 : Nat → Int32), (i ≤ n) → (c = (prI (prM K Z) n i).length) → (pr2 (prI (prM K Z) n i) p1 p2) → n - i < fu → ∀ (H : Heap) (locs : List Loc), wI E AR sR H locs (sW E ads (va_up siv0 3 (nI c)) p1 p2 (fun _ => 0) (ad 11) ++ (xW E ad iv ch rd tp rf hd (adn 10) (adr 10) gr dy im ++ (tW E adn ivn hrn csn (sK K) ++ (tW E adr ivr hrr csr Sr)))) → ∀ ls : Array Slot, lv_has ls 5 [(0, .ref (ads 6)), (1, .ref (ad 11)), (2, .int (nI Z)), (3, .int (nI i))] → W pR l eR (rmF 16 3 30) sR mR aR bR tR cR H locs (0 + 1 + 1 + 1) (0 + 10 + 10 + 10) QR (F0 mR 35 ls []) := by
    intro fu
    induction fu with
    | zero =>
      intro i c p1 p2 hi hc hPA hfu
      exact absurd hfu (Nat.not_lt_zero _)
    | succ fu ih_35 =>
      intro i c p1 p2 hi hc hPA hfu H locs hI ls hl
      refine lv_iload_n hxR hbR dX15_init_35 rfl (lv_at hl 3 rfl) ?_
      refine lv_aload_n hxR hbR dX15_init_36 rfl (lv_at hl 1 rfl) ?_
      refine r_getN (host := RX0) hxR hbR hts hown hK hI okX0 (ci := 0) rfl (4 + 8) (he_r (Nat.le_of_ble_eq_true rfl) (Nat.le_of_ble_eq_true rfl) (he_l xW_o)) 0 (by decide) (by decide) rfl (v := .ref (adn 10)) rfl dX15_init_37 ?_
      refine r_get hxR hbR hts hown hK hI okX1 (ci := 1) rfl (4 + (14 + 0)) (he_r (Nat.le_of_ble_eq_true rfl) (Nat.le_of_ble_eq_true rfl) (he_r (Nat.le_of_ble_eq_true rfl) (Nat.le_of_ble_eq_true rfl) (he_l tW_o))) 3 (by decide) q139 rfl (v := .int (nI n)) (al hn) dX15_init_40 ?_
      refine lv_icmp_ge (tgt := 137) hxR hbR dX15_init_43 (by decide) (fun c_43 => ?_) (fun c_43 => ?_)
      · skip
        have c_43 : n ≤ i := (n_le (a := n) (b := i) (by omega) (by omega)).mp c_43
        have hcl : c = (prL K Z n).length := by rw [hc, show i = n by omega]; rfl
        have hP2 : pr2 (prL K Z n) p1 p2 := by rw [show i = n by omega] at hPA; exact hPA
        have hp10c : 2 ^ c ≤ 2 ^ 10 := by rw [hcl]; exact hp10
        have hp1c := Nat.two_pow_pos c
        refine lv_iconst (v := 0) hxR hbR dX15_init_137 (by decide) ?_
        refine lv_istore_n (lv' := [(3, .int 0), (0, .ref (ads 6)), (1, .ref (ad 11)), (2, .int (nI Z))]) hxR hbR dX15_init_138 rfl hl (by decide) rfl (fun ls hl => ?_)
        have hI := wI_w (ws' := sW E ads (va_up (va_up siv0 3 (nI c)) 4 (nI 0)) p1 p2 (fun _ => 0) (ad 11) ++ (xW E ad iv ch rd tp rf hd (adn 10) (adr 10) gr dy im ++ (tW E adn ivn hrn csn (sK K) ++ (tW E adr ivr hrr csr Sr)))) (by rw [va_up_id (f := (va_up siv0 3 (nI c))) (k := 4) (v := nI 0) (up_n (by decide) rfl)]) hI
        have lp_139 : ∀ (fu : Nat) (m : Nat) (w : Nat) (fo : Nat → Int32) (ivx : Nat → Int32) (hrx : Nat → Int32) (csx : Nat → Int32) (Sx : Nat → Int32), (m ≤ 2 ^ c) → (w = wyN K Z n st m) → (∀ k, k < (prL K Z n).length → fo k = nI (wyC K Z n st k m)) → 2 ^ c - m < fu → ∀ (H : Heap) (locs : List Loc), wI E AR sR H locs (sW E ads (va_up (va_up siv0 3 (nI c)) 4 (nI w)) p1 p2 fo (ad 11) ++ (xW E ad iv ch rd tp rf hd (adn 10) (adr 10) gr dy im ++ (tW E adn ivn hrn csn (sK K) ++ (tW E adr ivx hrx csx Sx)))) → ∀ ls : Array Slot, lv_has ls 5 [(0, .ref (ads 6)), (1, .ref (ad 11)), (2, .int (nI Z)), (3, .int (nI m))] → W pR l eR (rmF 16 3 30) sR mR aR bR tR cR H locs (0 + 1 + 1 + 1) (0 + 10 + 10 + 10) QR (F0 mR 139 ls []) := by
          intro fu
          induction fu with
          | zero =>
            intro m w fo ivx hrx csx Sx hm hw hqo hfu
            exact absurd hfu (Nat.not_lt_zero _)
          | succ fu ih_139 =>
            intro m w fo ivx hrx csx Sx hm hw hqo hfu H locs hI ls hl
            subst hw
            refine lv_iload_n hxR hbR dX15_init_139 rfl (lv_at hl 3 rfl) ?_
            refine lv_iconst (v := 1) hxR hbR dX15_init_140 (by decide) ?_
            refine lv_aload_n hxR hbR dX15_init_141 rfl (lv_at hl 0 rfl) ?_
            refine r_get hxR hbR hts hown hK hI okX15 (ci := 14) rfl 0 (he_l sW_o) 3 (by decide) q1364 rfl (v := .int (nI c)) (al (up_n (by decide) va_up_s)) dX15_init_142 ?_
            refine lv_ishl hxR hbR dX15_init_145 ?_
            refine lv_as (y := nI (2 ^ c)) (nb_shl c (by omega)) ?_
            refine lv_icmp_ge (tgt := 161) hxR hbR dX15_init_146 (by decide) (fun c_146 => ?_) (fun c_146 => ?_)
            · skip
              have c_146 : (2 ^ c) ≤ m := (n_le (a := (2 ^ c)) (b := m) (by omega) (by omega)).mp c_146
              have hI : wI E AR sR _ _ (xW E ad iv ch rd tp rf hd (adn 10) (adr 10) gr dy im ++ (tW E adn ivn hrn csn (sK K) ++ (tW E adr ivx hrx csx Sx ++ (sW E ads (va_up (va_up siv0 3 (nI c)) 4 (nI (wyN K Z n st m))) p1 p2 fo (ad 11))))) := wI_pick ([sW E ads (va_up (va_up siv0 3 (nI c)) 4 (nI (wyN K Z n st m))) p1 p2 fo (ad 11), xW E ad iv ch rd tp rf hd (adn 10) (adr 10) gr dy im, tW E adn ivn hrn csn (sK K), tW E adr ivx hrx csx Sx]) [1, 2, 3, 0] 4 rfl (by decide) hI
              have hm9 : m = 2 ^ c := by omega
              have hI : wI E AR sR H locs (xW E ad iv ch rd tp rf hd (adn 10) (adr 10) gr dy im ++ (tW E adn ivn hrn csn (sK K) ++ (tW E adr ivx hrx csx Sx ++ (sW E ads (va_up (va_up siv0 3 (nI ((prL K Z n).length))) 4 (nI (wyN K Z n st (2 ^ (prL K Z n).length)))) p1 p2 fo (ad 11))))) := by rw [← hcl, ← hm9]; exact hI
              exact hret (ads, p1, p2, fo, ivx, hrx, csx, Sx) _ _ _ _ _ _ dX15_init_161 hI (by show ads 6 = oo ∧ pr2 (prL K Z n) p1 p2 ∧ ∀ k, k < (prL K Z n).length → fo k = nI (wyC K Z n st k (2 ^ (prL K Z n).length)); refine ⟨ha6, hP2, fun z hz => ?_⟩; rw [← hcl, ← hm9]; exact hqo z hz) (Nat.le_of_ble_eq_true rfl) (Nat.le_of_ble_eq_true rfl)
            · skip
              have c_146 : m < (2 ^ c) := Nat.lt_of_not_le (fun zz => c_146 ((n_le (a := (2 ^ c)) (b := m) (by omega) (by omega)).mpr zz))
              refine lv_aload_n hxR hbR dX15_init_149 rfl (lv_at hl 0 rfl) ?_
              refine lv_iload_n hxR hbR dX15_init_150 rfl (lv_at hl 3 rfl) ?_
              refine lv_iload_n hxR hbR dX15_init_151 rfl (lv_at hl 2 rfl) ?_
              refine kVV (n := 2) (As := [.int (nI m), .int (nI Z)]) (rest := []) (fun w => w) hxR hbR hmlR hts hown hK hA hl.1 isCtx.id hI (c15_tries l E ads (va_up (va_up siv0 3 (nI c)) 4 (nI (wyN K Z n st m))) p1 p2 fo ad iv ch rd tp rf hd gr dy im adn ivn hrn csn adr ivx hrx csx Sx K n st Z m hn hst (by first | omega | with_reducible assumption) (by first | omega | with_reducible assumption) (by first | omega | with_reducible assumption) (by first | omega | with_reducible assumption) (by first | omega | with_reducible assumption) (by first | omega | with_reducible assumption) (congrArg nI hcl) va_up_s (by omega) hP2 hqo) (lw_V q1349 q1351 qs29 q116 q1352) ⟨rfl, by decide +kernel⟩ 0 14 rfl rfl (he_l sW_o) rfl (Nat.le_of_ble_eq_true rfl) (Nat.le_of_ble_eq_true rfl) ⟨Nat.le_of_ble_eq_true rfl, Nat.le_of_ble_eq_true rfl⟩ (Nat.le_of_ble_eq_true rfl) dX15_init_152 (fun u H locs hp hI hz => ?_)
              obtain ⟨of2_152, ivr2_152, hrr2_152, csr2_152, Sr2_152⟩ := u
              have hI : wI E AR sR H locs (sW E ads (va_up (va_up (va_up siv0 3 (nI c)) 4 (nI (wyN K Z n st m))) 4 (nI (wyN K Z n st (m + 1)))) p1 p2 of2_152 (ad 11) ++ (xW E ad iv ch rd tp rf hd (adn 10) (adr 10) gr dy im ++ (tW E adn ivn hrn csn (sK K) ++ (tW E adr ivr2_152 hrr2_152 csr2_152 Sr2_152)))) := hI
              have hI := wI_w (ws' := sW E ads (va_up (va_up siv0 3 (nI c)) 4 (nI (wyN K Z n st (m + 1)))) p1 p2 of2_152 (ad 11) ++ (xW E ad iv ch rd tp rf hd (adn 10) (adr 10) gr dy im ++ (tW E adn ivn hrn csn (sK K) ++ (tW E adr ivr2_152 hrr2_152 csr2_152 Sr2_152)))) (by rw [(show (va_up (va_up siv0 3 (nI c)) 4 (nI (wyN K Z n st (m + 1)))) = (va_up (va_up (va_up siv0 3 (nI c)) 4 (nI (wyN K Z n st m))) 4 (nI (wyN K Z n st (m + 1)))) from (up_0).symm)]) hI
              have hI : wI E AR sR H locs (sW E ads (va_up (va_up siv0 3 (nI c)) 4 (nI (wyN K Z n st (m + 1)))) p1 p2 of2_152 (ad 11) ++ (xW E ad iv ch rd tp rf hd (adn 10) (adr 10) gr dy im ++ (tW E adn ivn hrn csn (sK K) ++ (tW E adr ivr2_152 hrr2_152 csr2_152 Sr2_152)))) := hI
              have hp : ∀ k, k < (prL K Z n).length → of2_152 k = nI (wyC K Z n st k (m + 1)) := hp
              have hof_152 := hp
              refine lv_iinc (v := nI (m + 1)) (lv' := [(3, .int (nI (m + 1))), (0, .ref (ads 6)), (1, .ref (ad 11)), (2, .int (nI Z))]) hxR hbR dX15_init_155 hl (k := 3) rfl (show nI m + 1 = nI (m + 1) from nI_add _ 1) (by decide) rfl (fun ls hl => ?_)
              refine lv_goto (tgt := 139) hxR hbR dX15_init_158 (by decide) ?_
              exact ih_139 (m + 1) (wyN K Z n st (m + 1)) of2_152 ivr2_152 hrr2_152 csr2_152 Sr2_152 (by omega) rfl hof_152 (by omega) _ _ hI _ (lv_sub hl [1, 2, 3, 0] rfl)
        exact lp_139 _ 0 0 (fun _ => 0) ivr hrr csr Sr (by omega) rfl (fun z _ => rfl) (Nat.lt_succ_self _) _ _ hI _ (lv_sub hl [1, 2, 3, 0] rfl)
      · skip
        have c_43 : i < n := Nat.lt_of_not_le (fun zz => c_43 ((n_le (a := n) (b := i) (by omega) (by omega)).mpr zz))
        refine lv_iload_n hxR hbR dX15_init_46 rfl (lv_at hl 3 rfl) ?_
        refine lv_iconst (v := 1) hxR hbR dX15_init_47 (by decide) ?_
        refine lv_iadd hxR hbR dX15_init_48 ?_
        refine lv_as (y := nI (i + 1)) (nI_add i 1) ?_
        refine lv_istore (lv' := [(4, .int (nI (i + 1))), (0, .ref (ads 6)), (1, .ref (ad 11)), (2, .int (nI Z)), (3, .int (nI i))]) hxR hbR dX15_init_49 hl (by decide) rfl (fun ls hl => ?_)
        have lp_51 : ∀ (fu : Nat) (j : Nat) (c2 : Nat) (r1 : Nat → Int32) (r2 : Nat → Int32), (i < j ∧ j ≤ n) → (c2 = (prI (prM K Z) n i ++ prJ (prM K Z) i j).length) → (pr2 (prI (prM K Z) n i ++ prJ (prM K Z) i j) r1 r2) → n - j < fu → ∀ (H : Heap) (locs : List Loc), wI E AR sR H locs (sW E ads (va_up siv0 3 (nI c2)) r1 r2 (fun _ => 0) (ad 11) ++ (xW E ad iv ch rd tp rf hd (adn 10) (adr 10) gr dy im ++ (tW E adn ivn hrn csn (sK K) ++ (tW E adr ivr hrr csr Sr)))) → ∀ ls : Array Slot, lv_has ls 5 [(0, .ref (ads 6)), (1, .ref (ad 11)), (2, .int (nI Z)), (3, .int (nI i)), (4, .int (nI j))] → W pR l eR (rmF 16 3 30) sR mR aR bR tR cR H locs (0 + 1 + 1 + 1) (0 + 10 + 10 + 10) QR (F0 mR 51 ls []) := by
          intro fu
          induction fu with
          | zero =>
            intro j c2 r1 r2 hj hc2 hPA2 hfu
            exact absurd hfu (Nat.not_lt_zero _)
          | succ fu ih_51 =>
            intro j c2 r1 r2 hj hc2 hPA2 hfu H locs hI ls hl
            refine lv_iload hxR hbR dX15_init_51 (lv_at hl 4 rfl) ?_
            refine lv_aload_n hxR hbR dX15_init_53 rfl (lv_at hl 1 rfl) ?_
            refine r_getN (host := RX0) hxR hbR hts hown hK hI okX0 (ci := 0) rfl (4 + 8) (he_r (Nat.le_of_ble_eq_true rfl) (Nat.le_of_ble_eq_true rfl) (he_l xW_o)) 0 (by decide) (by decide) rfl (v := .ref (adn 10)) rfl dX15_init_54 ?_
            refine r_get hxR hbR hts hown hK hI okX1 (ci := 1) rfl (4 + (14 + 0)) (he_r (Nat.le_of_ble_eq_true rfl) (Nat.le_of_ble_eq_true rfl) (he_r (Nat.le_of_ble_eq_true rfl) (Nat.le_of_ble_eq_true rfl) (he_l tW_o))) 3 (by decide) q139 rfl (v := .int (nI n)) (al hn) dX15_init_57 ?_
            refine lv_icmp_ge (tgt := 131) hxR hbR dX15_init_60 (by decide) (fun c_60 => ?_) (fun c_60 => ?_)
            · skip
              have c_60 : n ≤ j := (n_le (a := n) (b := j) (by omega) (by omega)).mp c_60
              refine lv_iinc (v := nI (i + 1)) (lv' := [(3, .int (nI (i + 1))), (0, .ref (ads 6)), (1, .ref (ad 11)), (2, .int (nI Z)), (4, .int (nI j))]) hxR hbR dX15_init_131 hl (k := 3) rfl (show nI i + 1 = nI (i + 1) from nI_add _ 1) (by decide) rfl (fun ls hl => ?_)
              refine lv_goto (tgt := 35) hxR hbR dX15_init_134 (by decide) ?_
              exact ih_35 (i + 1) c2 r1 r2 (by first | omega | with_reducible assumption) (by rw [hc2, show j = n by omega]; rfl) (by rw [show j = n by omega] at hPA2; exact hPA2) (by omega) _ _ hI _ (lv_sub hl [1, 2, 3, 0] rfl)
            · skip
              have c_60 : j < n := Nat.lt_of_not_le (fun zz => c_60 ((n_le (a := n) (b := j) (by omega) (by omega)).mpr zz))
              refine lv_iload_n hxR hbR dX15_init_63 rfl (lv_at hl 2 rfl) ?_
              refine lv_iload_n hxR hbR dX15_init_64 rfl (lv_at hl 3 rfl) ?_
              refine kSNI (n := 2) (As := [.int (nI Z), .int (nI i)]) (rest := []) (fun w => w ++ (sW E ads (va_up siv0 3 (nI c2)) r1 r2 (fun _ => 0) (ad 11) ++ (xW E ad iv ch rd tp rf hd (adn 10) (adr 10) gr dy im ++ (tW E adn ivn hrn csn (sK K) ++ (tW E adr ivr hrr csr Sr))))) hxR hbR hmlR hts hown hK hA hl.1 (isCtx.suf _) hI (c0_has l E  Z i (by omega) (by omega)) (host := RX0) q661 q81 (by decide) q660 (by decide +kernel) rfl (Nat.le_of_ble_eq_true rfl) (Nat.le_of_ble_eq_true rfl) ⟨Nat.le_of_ble_eq_true rfl, Nat.le_of_ble_eq_true rfl⟩ (Nat.le_of_ble_eq_true rfl) dX15_init_65 (fun r_65 u H locs hp hI hz => ?_)
              have hI : wI E AR sR H locs (sW E ads (va_up siv0 3 (nI c2)) r1 r2 (fun _ => 0) (ad 11) ++ (xW E ad iv ch rd tp rf hd (adn 10) (adr 10) gr dy im ++ (tW E adn ivn hrn csn (sK K) ++ (tW E adr ivr hrr csr Sr)))) := hI
              have hp : r_65 = b2i (Z.testBit i) := hp
              have hr_65 := hp
              rcases b2i_cases hr_65 with ⟨c_65, rfl⟩ | ⟨c_65, rfl⟩
              · skip
                have c_65 : Z.testBit i = true := c_65
                refine lv_if_eq (tgt := 125) hxR hbR dX15_init_68 (by decide) (fun c => absurd c (by decide)) (fun _ => ?_)
                refine lv_iload_n hxR hbR dX15_init_71 rfl (lv_at hl 2 rfl) ?_
                refine lv_iload hxR hbR dX15_init_72 (lv_at hl 4 rfl) ?_
                refine kSNI (n := 2) (As := [.int (nI Z), .int (nI j)]) (rest := []) (fun w => w ++ (sW E ads (va_up siv0 3 (nI c2)) r1 r2 (fun _ => 0) (ad 11) ++ (xW E ad iv ch rd tp rf hd (adn 10) (adr 10) gr dy im ++ (tW E adn ivn hrn csn (sK K) ++ (tW E adr ivr hrr csr Sr))))) hxR hbR hmlR hts hown hK hA hl.1 (isCtx.suf _) hI (c0_has l E  Z j (by omega) (by omega)) (host := RX0) q661 q81 (by decide) q660 (by decide +kernel) rfl (Nat.le_of_ble_eq_true rfl) (Nat.le_of_ble_eq_true rfl) ⟨Nat.le_of_ble_eq_true rfl, Nat.le_of_ble_eq_true rfl⟩ (Nat.le_of_ble_eq_true rfl) dX15_init_74 (fun r_74 u H locs hp hI hz => ?_)
                have hI : wI E AR sR H locs (sW E ads (va_up siv0 3 (nI c2)) r1 r2 (fun _ => 0) (ad 11) ++ (xW E ad iv ch rd tp rf hd (adn 10) (adr 10) gr dy im ++ (tW E adn ivn hrn csn (sK K) ++ (tW E adr ivr hrr csr Sr)))) := hI
                have hp : r_74 = b2i (Z.testBit j) := hp
                have hr_74 := hp
                rcases b2i_cases hr_74 with ⟨c_74, rfl⟩ | ⟨c_74, rfl⟩
                · skip
                  have c_74 : Z.testBit j = true := c_74
                  refine lv_if_eq (tgt := 125) hxR hbR dX15_init_77 (by decide) (fun c => absurd c (by decide)) (fun _ => ?_)
                  refine lv_aload_n hxR hbR dX15_init_80 rfl (lv_at hl 1 rfl) ?_
                  refine r_getN (host := RX0) hxR hbR hts hown hK hI okX0 (ci := 0) rfl (4 + 8) (he_r (Nat.le_of_ble_eq_true rfl) (Nat.le_of_ble_eq_true rfl) (he_l xW_o)) 0 (by decide) (by decide) rfl (v := .ref (adn 10)) rfl dX15_init_81 ?_
                  refine lv_iload_n hxR hbR dX15_init_84 rfl (lv_at hl 3 rfl) ?_
                  refine lv_iload hxR hbR dX15_init_85 (lv_at hl 4 rfl) ?_
                  have hI := wI_w app2 hI
                  refine kVI (n := 2) (As := [.int (nI i), .int (nI j)]) (rest := []) (fun w => (sW E ads (va_up siv0 3 (nI c2)) r1 r2 (fun _ => 0) (ad 11) ++ (xW E ad iv ch rd tp rf hd (adn 10) (adr 10) gr dy im)) ++ (w ++ (tW E adr ivr hrr csr Sr))) hxR hbR hmlR hts hown hK hA hl.1 (isCtx.mk _ _) hI (c1_since l E adn ivn hrn csn K i j (by omega) (by omega)) (lw_V q1348 q639 q640 q82 q641) ⟨rfl, by decide +kernel⟩ 0 1 rfl rfl tW_o rfl (Nat.le_of_ble_eq_true rfl) (Nat.le_of_ble_eq_true rfl) ⟨Nat.le_of_ble_eq_true rfl, Nat.le_of_ble_eq_true rfl⟩ (Nat.le_of_ble_eq_true rfl) dX15_init_87 (fun r_87 u H locs hp hI hz => ?_)
                  have hI := wI_w app2.symm hI
                  have hI : wI E AR sR H locs (sW E ads (va_up siv0 3 (nI c2)) r1 r2 (fun _ => 0) (ad 11) ++ (xW E ad iv ch rd tp rf hd (adn 10) (adr 10) gr dy im ++ (tW E adn ivn hrn csn (sK K) ++ (tW E adr ivr hrr csr Sr)))) := hI
                  have hp : r_87 = K i j := hp
                  have hr_87 := hp
                  subst hr_87
                  refine lv_iconst (v := (-1)) hxR hbR dX15_init_90 (by decide) ?_
                  refine lv_icmp_ne (tgt := 125) hxR hbR dX15_init_91 (by decide) (fun c_91 => ?_) (fun c_91 => ?_)
                  · skip
                    have i_91 : ¬ ((K i j).toInt = (-1)) := by have zz := mt i_eq.mpr c_91; exact zz
                    refine lv_iinc (v := nI (j + 1)) (lv' := [(4, .int (nI (j + 1))), (0, .ref (ads 6)), (1, .ref (ad 11)), (2, .int (nI Z)), (3, .int (nI i))]) hxR hbR dX15_init_125 hl (k := 4) rfl (show nI j + 1 = nI (j + 1) from nI_add _ 1) (by decide) rfl (fun ls hl => ?_)
                    refine lv_goto (tgt := 51) hxR hbR dX15_init_128 (by decide) ?_
                    exact ih_51 (j + 1) c2 r1 r2 ⟨by omega, by omega⟩ (by first | (rw [prJ_n (prM_1 c_65)]; exact hc2) | (rw [prJ_n (prM_2 c_74)]; exact hc2) | (rw [prJ_n (prM_3 c_91)]; exact hc2) | (rw [prJ_y hj.1 hM, ← List.append_assoc, List.length_append, ← hc2]; rfl)) (by first | (rw [prJ_n (prM_1 c_65)]; exact hPA2) | (rw [prJ_n (prM_2 c_74)]; exact hPA2) | (rw [prJ_n (prM_3 c_91)]; exact hPA2) | (rw [prJ_y hj.1 hM, ← List.append_assoc, hc2]; exact hPA2.push)) (by omega) _ _ hI _ (lv_sub hl [1, 2, 3, 4, 0] rfl)
                  · skip
                    have i_91 : (K i j).toInt = (-1) := by have zz := i_eq.mp c_91; exact zz
                    have hM := prM_y c_65 c_74 c_91
                    have h10 := pr_lt (K := K) (S := Z) (n := n) (by omega) hb5 hn7 (by omega) (by omega) hj.1 hM
                    refine lv_aload_n hxR hbR dX15_init_94 rfl (lv_at hl 0 rfl) ?_
                    refine r_get hxR hbR hts hown hK hI okX15 (ci := 14) rfl 0 (he_l sW_o) 0 (by decide) q1361 rfl (v := .ref (ads 0)) rfl dX15_init_95 ?_
                    refine lv_aload_n hxR hbR dX15_init_98 rfl (lv_at hl 0 rfl) ?_
                    refine r_get hxR hbR hts hown hK hI okX15 (ci := 14) rfl 0 (he_l sW_o) 3 (by decide) q1364 rfl (v := .int (nI c2)) (al va_up_s) dX15_init_99 ?_
                    refine lv_iload_n hxR hbR dX15_init_102 rfl (lv_at hl 3 rfl) ?_
                    refine r_iast (ws1 := sW E ads (va_up siv0 3 (nI c2)) (va_up r1 c2 (nI i)) r2 (fun _ => 0) (ad 11) ++ (xW E ad iv ch rd tp rf hd (adn 10) (adr 10) gr dy im ++ (tW E adn ivn hrn csn (sK K) ++ (tW E adr ivr hrr csr Sr)))) hxR hbR hK hI 1 (n := 10) (J := c2) (f := r1) (he_l (sW_g0 rfl)) (by omega) (by decide) (hw_l (Nat.le_of_ble_eq_true rfl) sW_a0) dX15_init_103 (fun H locs hI => ?_)
                    refine lv_aload_n hxR hbR dX15_init_104 rfl (lv_at hl 0 rfl) ?_
                    refine r_get hxR hbR hts hown hK hI okX15 (ci := 14) rfl 0 (he_l sW_o) 1 (by decide) q1362 rfl (v := .ref (ads 1)) rfl dX15_init_105 ?_
                    refine lv_aload_n hxR hbR dX15_init_108 rfl (lv_at hl 0 rfl) ?_
                    refine r_get hxR hbR hts hown hK hI okX15 (ci := 14) rfl 0 (he_l sW_o) 3 (by decide) q1364 rfl (v := .int (nI c2)) (al va_up_s) dX15_init_109 ?_
                    refine lv_iload hxR hbR dX15_init_112 (lv_at hl 4 rfl) ?_
                    refine r_iast (ws1 := sW E ads (va_up siv0 3 (nI c2)) (va_up r1 c2 (nI i)) (va_up r2 c2 (nI j)) (fun _ => 0) (ad 11) ++ (xW E ad iv ch rd tp rf hd (adn 10) (adr 10) gr dy im ++ (tW E adn ivn hrn csn (sK K) ++ (tW E adr ivr hrr csr Sr)))) hxR hbR hK hI 2 (n := 10) (J := c2) (f := r2) (he_l (sW_g1 rfl)) (by omega) (by decide) (hw_l (Nat.le_of_ble_eq_true rfl) sW_a1) dX15_init_114 (fun H locs hI => ?_)
                    refine lv_aload_n hxR hbR dX15_init_115 rfl (lv_at hl 0 rfl) ?_
                    refine lv_dup hxR hbR dX15_init_116 rfl ?_
                    refine r_get hxR hbR hts hown hK hI okX15 (ci := 14) rfl 0 (he_l sW_o) 3 (by decide) q1364 rfl (v := .int (nI c2)) (al va_up_s) dX15_init_117 ?_
                    refine lv_iconst (v := 1) hxR hbR dX15_init_120 (by decide) ?_
                    refine lv_iadd hxR hbR dX15_init_121 ?_
                    refine lv_as (y := nI (c2 + 1)) (nI_add c2 1) ?_
                    refine r_put (v := .int (nI (c2 + 1))) (ws1 := sW E ads (va_up siv0 3 (nI (c2 + 1))) (va_up r1 c2 (nI i)) (va_up r2 c2 (nI j)) (fun _ => 0) (ad 11) ++ (xW E ad iv ch rd tp rf hd (adn 10) (adr 10) gr dy im ++ (tW E adn ivn hrn csn (sK K) ++ (tW E adr ivr hrr csr Sr)))) hxR hbR hts hown hK hI okX15 (ci := 14) rfl 0 (he_l sW_o) 3 (by decide) q1364 rfl rfl rfl rfl (Nat.le_of_ble_eq_true rfl) (hw_l (Nat.le_of_ble_eq_true rfl) (Eq.trans sW_i3 (sW_c up_0))) dX15_init_122 (fun H locs hI => ?_)
                    refine lv_iinc (v := nI (j + 1)) (lv' := [(4, .int (nI (j + 1))), (0, .ref (ads 6)), (1, .ref (ad 11)), (2, .int (nI Z)), (3, .int (nI i))]) hxR hbR dX15_init_125 hl (k := 4) rfl (show nI j + 1 = nI (j + 1) from nI_add _ 1) (by decide) rfl (fun ls hl => ?_)
                    refine lv_goto (tgt := 51) hxR hbR dX15_init_128 (by decide) ?_
                    exact ih_51 (j + 1) (c2 + 1) (va_up r1 c2 (nI i)) (va_up r2 c2 (nI j)) ⟨by omega, by omega⟩ (by first | (rw [prJ_n (prM_1 c_65)]; exact hc2) | (rw [prJ_n (prM_2 c_74)]; exact hc2) | (rw [prJ_n (prM_3 c_91)]; exact hc2) | (rw [prJ_y hj.1 hM, ← List.append_assoc, List.length_append, ← hc2]; rfl)) (by first | (rw [prJ_n (prM_1 c_65)]; exact hPA2) | (rw [prJ_n (prM_2 c_74)]; exact hPA2) | (rw [prJ_n (prM_3 c_91)]; exact hPA2) | (rw [prJ_y hj.1 hM, ← List.append_assoc, hc2]; exact hPA2.push)) (by omega) _ _ hI _ (lv_sub hl [1, 2, 3, 4, 0] rfl)
                · skip
                  have c_74 : Z.testBit j = false := c_74
                  refine lv_if_eq (tgt := 125) hxR hbR dX15_init_77 (by decide) (fun _ => ?_) (fun c => absurd c (by decide))
                  refine lv_iinc (v := nI (j + 1)) (lv' := [(4, .int (nI (j + 1))), (0, .ref (ads 6)), (1, .ref (ad 11)), (2, .int (nI Z)), (3, .int (nI i))]) hxR hbR dX15_init_125 hl (k := 4) rfl (show nI j + 1 = nI (j + 1) from nI_add _ 1) (by decide) rfl (fun ls hl => ?_)
                  refine lv_goto (tgt := 51) hxR hbR dX15_init_128 (by decide) ?_
                  exact ih_51 (j + 1) c2 r1 r2 ⟨by omega, by omega⟩ (by first | (rw [prJ_n (prM_1 c_65)]; exact hc2) | (rw [prJ_n (prM_2 c_74)]; exact hc2) | (rw [prJ_n (prM_3 c_91)]; exact hc2) | (rw [prJ_y hj.1 hM, ← List.append_assoc, List.length_append, ← hc2]; rfl)) (by first | (rw [prJ_n (prM_1 c_65)]; exact hPA2) | (rw [prJ_n (prM_2 c_74)]; exact hPA2) | (rw [prJ_n (prM_3 c_91)]; exact hPA2) | (rw [prJ_y hj.1 hM, ← List.append_assoc, hc2]; exact hPA2.push)) (by omega) _ _ hI _ (lv_sub hl [1, 2, 3, 4, 0] rfl)
              · skip
                have c_65 : Z.testBit i = false := c_65
                refine lv_if_eq (tgt := 125) hxR hbR dX15_init_68 (by decide) (fun _ => ?_) (fun c => absurd c (by decide))
                refine lv_iinc (v := nI (j + 1)) (lv' := [(4, .int (nI (j + 1))), (0, .ref (ads 6)), (1, .ref (ad 11)), (2, .int (nI Z)), (3, .int (nI i))]) hxR hbR dX15_init_125 hl (k := 4) rfl (show nI j + 1 = nI (j + 1) from nI_add _ 1) (by decide) rfl (fun ls hl => ?_)
                refine lv_goto (tgt := 51) hxR hbR dX15_init_128 (by decide) ?_
                exact ih_51 (j + 1) c2 r1 r2 ⟨by omega, by omega⟩ (by first | (rw [prJ_n (prM_1 c_65)]; exact hc2) | (rw [prJ_n (prM_2 c_74)]; exact hc2) | (rw [prJ_n (prM_3 c_91)]; exact hc2) | (rw [prJ_y hj.1 hM, ← List.append_assoc, List.length_append, ← hc2]; rfl)) (by first | (rw [prJ_n (prM_1 c_65)]; exact hPA2) | (rw [prJ_n (prM_2 c_74)]; exact hPA2) | (rw [prJ_n (prM_3 c_91)]; exact hPA2) | (rw [prJ_y hj.1 hM, ← List.append_assoc, hc2]; exact hPA2.push)) (by omega) _ _ hI _ (lv_sub hl [1, 2, 3, 4, 0] rfl)
        exact lp_51 _ (i + 1) c p1 p2 ⟨by omega, by omega⟩ (by rw [prJ_0 (Nat.le_refl _), List.append_nil]; exact hc) (by rw [prJ_0 (Nat.le_refl _), List.append_nil]; exact hPA) (Nat.lt_succ_self _) _ _ hI _ (lv_sub hl [1, 2, 3, 4, 0] rfl)
  exact lp_35 _ 0 0 (fun _ => 0) (fun _ => 0) (by first | omega | with_reducible assumption) rfl pr2.nil (Nat.lt_succ_self _) _ _ hI _ (lv_sub hl [1, 2, 3, 0] rfl)
