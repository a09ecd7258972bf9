/-! THE INDUCTION'S STEP -/
set_option maxHeartbeats 2000000
theorem mx_i32 {k : Int} {x : Int32} (h1 : -2147483648 ≤ k) (h2 : k ≤ 2147483647) : x = Int32.ofInt k ↔ x.toInt = k := by
  have e : (Int32.ofInt k).toInt = k := by
    rw [Int32.toInt_ofInt]
    exact Int.bmod_eq_of_le (by simp; omega) (by simp; omega)
  constructor
  · intro h; rw [h, e]
  · intro h; apply Int32.toInt_inj.mp; rw [h, e]
theorem mx_tsw_spec (x : Int32) (d : Int) : ∀ (os : List Int) (k : Int), -2147483648 ≤ k → k + os.length ≤ 2147483648 → mx_tsw x k os d = if k ≤ x.toInt ∧ x.toInt < k + os.length then (os[(x.toInt - k).toNat]?).getD d else d
  | [], k, _, _ => by
    unfold mx_tsw
    simp
  | o :: os, k, h1, h2 => by
    have h2' : k + (os.length + 1 : Nat) ≤ 2147483648 := h2
    unfold mx_tsw
    by_cases c : x = Int32.ofInt k
    · rw [if_pos c]
      have e := (mx_i32 h1 (by omega)).mp c
      rw [e, if_pos ⟨Int.le_refl _, by simp; omega⟩]
      simp
    · rw [if_neg c]
      have e : x.toInt ≠ k := fun z => c ((mx_i32 h1 (by omega)).mpr z)
      rw [mx_tsw_spec x d os (k + 1) (by omega) (by omega)]
      by_cases g : k + 1 ≤ x.toInt ∧ x.toInt < k + 1 + os.length
      · rw [if_pos g, if_pos ⟨by omega, by simp; omega⟩]
        have e2 : (x.toInt - k).toNat = (x.toInt - (k + 1)).toNat + 1 := by omega
        rw [e2, List.getElem?_cons_succ]
      · rw [if_neg g, if_neg (fun z => g ⟨by omega, by have := z.2; simp at this; omega⟩)]
theorem mx_lsw_spec (x : Int32) (d : Int) : ∀ (ps : List (Int × Int)), (∀ o ∈ ps, -2147483648 ≤ o.1 ∧ o.1 ≤ 2147483647) → mx_lsw x ps d = Op.lookupswitch.offset ps d x.toInt
  | [], _ => rfl
  | (k, o) :: ps, h => by
    unfold mx_lsw
    rw [Op.lookupswitch.offset_cons]
    have hk := h _ List.mem_cons_self
    by_cases c : x = Int32.ofInt k
    · rw [if_pos c, if_pos ((mx_i32 hk.1 hk.2).mp c).symm]
    · rw [if_neg c, if_neg (fun z => c ((mx_i32 hk.1 hk.2).mpr z.symm))]
      exact mx_lsw_spec x d ps (fun o ho => h o (List.mem_cons_of_mem _ ho))
theorem mx_tg_eq {pc : Nat} {off : Int} (h : 0 ≤ (pc : Int) + off) : (pc : Int) + off = ((mx_tg pc off : Nat) : Int) := by
  unfold mx_tg
  omega
section MXB
variable {D : va_G} {cas : Nat → ClassId} {x : Nat → Nat → Prop} {A0 : Nat → Prop} {B : Nat × (Nat → Int32)} {l : Launch}
variable {p : Program} {e : Env} {R : Room} {s : State} {m : MethodId} {args : Array Value} {below : List Frame} {meth : Method} {c : Code} {Q : State → Prop} {L0 : List Nat} {c0 k0 : Nat} {n : Nat} {d y : Nat} {r : mx_R} {ey : mx_M}
theorem mx_rm_frames {d mc ms : Nat} : (mx_rm d mc ms).frames = d + 40 := rfl
/-- a call: by its contract, back here or thrown -/
theorem mx_call_ok (GL : mx_GL) (hCO : mx_CallOK l D cas x A0 B) (hPO : mx_PrimOK l D cas x A0 B) (IH : mx_IH l D cas x A0 B n) {pc np oc j len : Nat} {lo : mx_L} {st : List Value} {h : mx_H} {i : Instr}
    (hz : mx_stp (mx_run mx_nx n) (mx_call d y pc np oc j lo st h) = some r) (hhB : h.1.1 = B) (hi : mx_OI oc j i len) (hnp : np = pc + len) (hd : decode ey.2.1 pc = .ok (i, len))
    (hl : l.admits e) (hC : mx_Cy p s m args meth c D cas x A0 B y ey) (hR : mx_Rk R d c0 k0 r) (hER : mx_ER p l e R s m args below meth c Q D cas x A0 L0 c0 k0 ey.2.1 y r) (hEX : mx_EX p l e R s m args below meth c Q D cas x A0 L0 c0 k0 y r) :
    mx_G p l e R s m args below meth c Q D cas x A0 s.heap L0 (mx_max y) c0 k0 pc (lo, st, h) := by
  subst hnp
  obtain ⟨hmi, hCx, hml, hlk, htab, hB⟩ := id hC
  obtain ⟨hx, hb, hT, hTb, hts, hown, hini, hA, hfl, hstr⟩ := id hCx
  unfold mx_call at hz
  cases hna : mx_ina (mx_own y) j with
  | none => rw [hna] at hz; cases hz
  | some z =>
    obtain ⟨na, fr, oc'⟩ := z
    rw [hna] at hz
    dsimp only at hz
    by_cases ho : oc' ≠ oc ∨ st.length < na
    · rw [if_pos ho] at hz; cases hz
    rw [if_neg ho] at hz
    have ho1 : oc' = oc := by
      by_cases q : oc' = oc
      · exact q
      · exact (ho (Or.inl q)).elim
    subst ho1
    have hlen : na ≤ st.length := by
      by_cases q : st.length < na
      · exact (ho (Or.inr q)).elim
      · omega
    generalize hrc : (if fr = true then 0 else match (st[na - 1]? : Option Value) with | some (.ref p) => mx_kd h p | _ => 98) = rc at hz
    cases hin : mx_inv (mx_own y) j rc with
    | none => rw [hin] at hz; cases hz
    | some z =>
      obtain ⟨kd, y'⟩ := z
      rw [hin] at hz
      dsimp only at hz
      by_cases h8 : 8 < mx_csz (st.drop na)
      · rw [if_pos h8] at hz; cases hz
      rw [if_neg h8] at hz
      have hst : (st.take na).reverse.reverse ++ st.drop na = st := by rw [List.reverse_reverse, List.take_append_drop]
      by_cases h20 : 20 ≤ kd
      · rw [if_pos h20] at hz
        cases hp : mx_prim kd (st.take na).reverse h with
        | none => rw [hp] at hz; cases hz
        | some w =>
          obtain ⟨v, h'⟩ := w
          rw [hp] at hz
          have hz : mx_run mx_nx n (d, y, pc + len, lo, mx_psv v (st.drop na), h') = some r := hz
          have hle := mx_run_qle n _ r hz
          have hpl := mx_prim_le hp
          have kk := IH d y (pc + len) lo (mx_psv v (st.drop na)) h' r hz (hpl.1.trans hhB) p e R s m args below meth c Q L0 c0 k0 ey hl hC hR hER hEX
          have res := hPO oc' (mx_own y) j rc kd y' na fr hna hin h20 i len hi p e R s m args below meth c ey.2.1 Q L0 (mx_max y) c0 k0 (mx_isI y) hl hCx hB hml (by have := hR.1; omega) (by have := hR.2.1; omega) lo (st.take na).reverse (st.drop na) h h' v pc hp (by rw [List.length_reverse, List.length_take]; omega) (by omega)
            ⟨by have := hle.2.1; have := hR.2.2.1; dsimp only at *; omega, by have := hle.2.2; have := hR.2.2.2; dsimp only at *; omega⟩ hd kk
          rw [hst] at res
          exact res
      · rw [if_neg h20] at hz
        cases d with
        | zero => cases hz
        | succ d' =>
          dsimp only at hz
          by_cases hmx : mx_max y' < mx_csz (st.take na).reverse
          · rw [if_pos hmx] at hz; cases hz
          rw [if_neg hmx] at hz
          obtain ⟨r1, hr1, hz⟩ := Option.bind_eq_some_iff.mp hz
          obtain ⟨e', he', h37, hfr, hcall⟩ := hCO oc' (mx_own y) j rc kd y' na fr hna hin (by omega)
          intro L E lc ls st' H locs cells slots hL hH hO hLS hn hV hS hc hk
          have hc : c0 + cells = h.1.2.1 := hc
          have hk : k0 + slots = h.1.2.2 := hk
          have hV1 : mx_VL (fun q => L[q]?) x (st.take na).reverse (st'.take na).reverse := (hV.take na).rev
          have hV2 : mx_VL (fun q => L[q]?) x (st.drop na) (st'.drop na) := hV.drop na
          have hlen' : na ≤ st'.length := by rw [hV.len]; exact hlen
          have hM := mx_met (E := E) GL IH he' h37 hr1 hhB hV1 (by omega)
          have hle1 := mx_run_qle n _ r1 hr1
          have hle1a : h.1.2.1 ≤ r1.2.1.2.1 ∧ h.1.2.2 ≤ r1.2.1.2.2 := ⟨hle1.2.1, hle1.2.2⟩
          have hhB1 : r1.2.1.1 = B := hle1.1.trans hhB
          -- what comes behind
          have hle2 : mx_qle r1.2.1 r.2.1 := by
            rcases r1 with ⟨v | q, h1⟩
            · have hz : mx_run mx_nx n (d' + 1, y, pc + len, lo, mx_psv v (st.drop na), h1) = some r := hz
              exact mx_run_qle n _ r hz
            · have hz : mx_stp (mx_run mx_nx n) (mx_up (mx_thr (d' + 1) y pc lo q h1)) = some r := by
                revert hz
                dsimp only
                cases mx_thr (d' + 1) y pc lo q h1 <;> exact id
              have ht := mx_thr_le (d' + 1) y pc lo q h1
              revert hz ht
              cases mx_thr (d' + 1) y pc lo q h1 with
              | inl o =>
                intro hz ht
                have hz : o = some r := hz
                subst hz
                exact ht
              | inr x' =>
                intro hz ht
                exact mx_qle.tr ht (mx_run_qle n x' r hz)
          have hrecv : fr = false → ∃ (b : Addr) (As : List Value) (cellB : Cell) (r : vw_C), (st'.take na).reverse = .ref b :: As ∧ H[b]? = some cellB ∧ cellB.vm.isStatics = false ∧ mx_cl[rc]? = some r ∧ s.vm.findClass r.1 = some cellB.cls := by
            intro hf
            obtain ⟨hrc43, hna0⟩ := hfr hf
            rw [hf, if_neg (by decide)] at hrc
            cases hget : st[na - 1]? with
            | none => rw [hget] at hrc; dsimp only at hrc; omega
            | some v0 =>
              rw [hget] at hrc
              cases v0 with
              | ref p0 =>
                dsimp only at hrc
                obtain ⟨v', hg', b, rfl, hb'⟩ := hV.at (na - 1) hget
                rcases mx_kd_cell hTb.2.1 hH hb' with ⟨r0, hr0, cell, q1, q2, q3⟩ | ⟨t, ht, hkd, -⟩
                · refine ⟨b, (st'.take (na - 1)).reverse, cell, r0, ?_, q1, q2, by rw [← hrc]; exact hr0, q3⟩
                  obtain ⟨k, rfl⟩ : ∃ k, na = k + 1 := ⟨na - 1, by omega⟩
                  rw [List.take_add_one]
                  rw [show k + 1 - 1 = k from rfl] at hg'
                  rw [hg']
                  simp
                · have hkd : mx_kd h p0 = 100 + t := hkd
                  omega
              | _ => dsimp only at hrc; omega
          have hroom := hR.2.2
          have hle2a : r1.2.1.2.1 ≤ r.2.1.2.1 ∧ r1.2.1.2.2 ≤ r.2.1.2.2 := ⟨hle2.2.1, hle2.2.2⟩
          have hmax10 := (GL.2.1.1 y' e' he' h37).2.2.2.2
          have run := hcall i len hi p e R s m args below meth c ey.2.1 hl hx hb hown hts hB H locs cells slots _ _ (mx_rm d' (r1.2.1.2.1 - h.1.2.1) (r1.2.1.2.2 - h.1.2.2)) _ _ _ (st'.take na).reverse (st'.drop na) pc ls hM rfl rfl
            (by show d' + 40 + 1 ≤ R.frames; have := hR.1; omega) (by show 8 + (e'.2.2.1 + 11) + (10300 + 40 * d') ≤ R.locals; have := hR.2.1; omega) (mx_Pc.blind GL.2.2.2.2) (by rw [List.length_reverse, List.length_take]; omega) hrecv (by rw [hml]; exact hLS.1.trans hn) (by rw [hV2.csz]; omega) hd
            (fun U hU hW => ⟨rfl, by rw [hU]; exact hB.warm GL.2.2.2.2 hW hS.1 hS.2.1, by rw [hU]; exact hH⟩) ⟨by omega, by omega⟩
          have hst' : (st'.take na).reverse.reverse ++ st'.drop na = st' := by rw [List.reverse_reverse, List.take_append_drop]
          rw [hst'] at run
          intro T hTe X
          obtain ⟨M0, hL0⟩ := hL
          rcases run T hTe X with ⟨v, st0, t, T', Lk, hst0, X', hLk, e1, e2, ⟨hF, v0, v', M, E', hr1v, hov, hO1, hHr⟩, goes⟩ | ⟨q, st0, t, T', Lk, En, ce, hst0, X', hLk, e1, e2, ⟨hF, w, cn, M, E', hr1w, hVw, hxc, hEn, hHr⟩, hce, hcv, hcl, steps⟩
          · obtain ⟨ra, h1⟩ := r1
            have hr1v : ra = .inl v0 := hr1v
            subst hr1v
            cases hov
            have hz : mx_run mx_nx n (d' + 1, y, pc + len, lo, mx_psv v0 (st.drop na), h1) = some r := hz
            have kk := IH (d' + 1) y (pc + len) lo (mx_psv v0 (st.drop na)) h1 r hz hhB1 p e R s m args below meth c Q L0 c0 k0 ey hl hC hR hER hEX
            have hS' : va_S A0 s.heap t.heap (locs ++ Lk) := by
              have hF1 := hF.1
              have hF2 := hF.2
              rw [hst0] at hF1 hF2
              refine ⟨Nat.le_trans hS.1 hF1, fun q0 hq0 hA0 => (hF2 q0 (Nat.lt_of_lt_of_le hq0 hS.1) hA0).trans (hS.2.1 q0 hq0 hA0), fun z hzm => ?_⟩
              rcases List.mem_append.mp hzm with g | g
              · exact hS.2.2 z g
              · exact hLk z g
            have hVV : mx_VL (fun q => (L ++ M)[q]?) x (mx_psv v0 (st.drop na)) (v.toList ++ st'.drop na) := by
              unfold mx_psv
              have hd2 := hV2.mono (g' := fun q => (L ++ M)[q]?) mx_ext
              cases v0 with
              | none => have hO1 : v = none := hO1; subst hO1; exact hd2
              | some v0 => obtain ⟨w, rfl, hw⟩ := hO1; exact ⟨w, _, rfl, hw, hd2⟩
            obtain ⟨t2, a2, b2⟩ := kk (L ++ M) E' lc ls (v.toList ++ st'.drop na) t.heap (locs ++ Lk) _ _ ⟨M0 ++ M, by rw [hL0, List.append_assoc]⟩ hHr (hO.mono mx_ext) hLS hn hVV hS' (by show c0 + (cells + (h1.1.2.1 - h.1.2.1)) = h1.1.2.1; dsimp only at hc hle1a; omega) (by show k0 + (slots + (h1.1.2.2 - h.1.2.2)) = h1.1.2.2; dsimp only at hk hle1a; omega) T' e1 X'
            exact ⟨t2, goes t2 a2, b2⟩
          · obtain ⟨ra, h1⟩ := r1
            have hr1w : ra = .inr w := hr1w
            subst hr1w
            have hz : mx_stp (mx_run mx_nx n) (mx_up (mx_thr (d' + 1) y pc lo w h1)) = some r := by
              revert hz
              dsimp only
              cases mx_thr (d' + 1) y pc lo w h1 <;> exact id
            have hS' : va_S A0 s.heap t.heap (locs ++ Lk) := by
              have hF1 := hF.1
              have hF2 := hF.2
              rw [hst0] at hF1 hF2
              refine ⟨Nat.le_trans hS.1 hF1, fun q0 hq0 hA0 => (hF2 q0 (Nat.lt_of_lt_of_le hq0 hS.1) hA0).trans (hS.2.1 q0 hq0 hA0), fun z hzm => ?_⟩
              rcases List.mem_append.mp hzm with g | g
              · exact hS.2.2 z g
              · exact hLk z g
            rw [hEn] at hcl
            obtain ⟨t2, a2, b2⟩ := mx_thr_ok (rest := st'.drop na) GL IH hz hhB1 hl hC hR hER hEX (L := L ++ M) ⟨M0 ++ M, by rw [hL0, List.append_assoc]⟩ hHr (hO.mono mx_ext) hLS hn hS' (by show c0 + (cells + (h1.1.2.1 - h.1.2.1)) = h1.1.2.1; dsimp only at hc hle1a; omega) (by show k0 + (slots + (h1.1.2.2 - h.1.2.2)) = h1.1.2.2; dsimp only at hk hle1a; omega) hVw hxc hce hcv hcl (mx_xc_in hxc) T' e1 X'
            exact ⟨t2, steps.trans a2, b2⟩
end MXB
section MXS
variable {D : va_G} {cas : Nat → ClassId} {x : Nat → Nat → Prop} {A0 : Nat → Prop} {B : Nat × (Nat → Int32)} {l : Launch} {n : Nat}
theorem mx_Hr.grow {L : List Nat} {E : List va_E} {h : List mx_E} {H H1 : Heap} (hh : mx_Hr D cas x A0 L E h H) (hq : ∀ q : Nat, q < H.size → H1[q]? = H[q]?) : mx_Hr D cas x A0 L E h H1 :=
  ⟨hh.1, hh.2.1, hh.2.2.1, hh.2.2.2.1.kept (fun _ _ hk => hq _ (vx_lt hh.2.2.2.1 hk)), hh.2.2.2.2⟩
theorem mx_stp_up_le {q : mx_Q} {z : Option mx_R ⊕ mx_X} {r : mx_R} (hz : mx_stp (mx_run mx_nx n) (mx_up z) = some r) (hle : mx_Rle q z) : mx_qle q r.2.1 := by
  rcases z with (_ | o) | x'
  · cases hz
  · cases hz; exact hle
  · exact mx_qle.tr hle (mx_run_qle n x' r hz)
theorem mx_thr8_inv {rr : List Value} {d y pc : Nat} {lo : mx_L} {q : Value} {h : mx_H} {r : mx_R} (hz : mx_stp (mx_run mx_nx n) (mx_up (mx_thr8 rr d y pc lo q h)) = some r) : mx_csz rr ≤ 8 ∧ mx_stp (mx_run mx_nx n) (mx_up (mx_thr d y pc lo q h)) = some r := by
  unfold mx_thr8 at hz
  by_cases c : 8 < mx_csz rr
  · rw [if_pos c] at hz; cases hz
  · rw [if_neg c] at hz; exact ⟨by omega, hz⟩
theorem mx_lsw_in (x : Int32) (d : Int) : ∀ (ps : List (Int × Int)), mx_lsw x ps d = d ∨ ∃ o ∈ ps, mx_lsw x ps d = o.2
  | [] => Or.inl rfl
  | (k, o) :: ps => by
    unfold mx_lsw
    by_cases c : x = Int32.ofInt k
    · rw [if_pos c]; exact Or.inr ⟨(k, o), List.mem_cons_self, rfl⟩
    · rw [if_neg c]
      rcases mx_lsw_in x d ps with h | ⟨q, h1, h2⟩
      · exact Or.inl h
      · exact Or.inr ⟨q, List.mem_cons_of_mem _ h1, h2⟩
/-- the machine's own throw, within a frame -/
theorem mx_vm_ok {p : Program} {e : Env} {R : Room} {s : State} {m : MethodId} {args : Array Value} {below : List Frame} {meth : Method} {c : Code} {Q : State → Prop} {L0 : List Nat} {c0 k0 : Nat} {d y : Nat} {r : mx_R} {ey : mx_M} (GL : mx_GL) (hX : ∀ c ∈ mx_xs, ∀ a, x (2000 + c) a) (hVO : mx_VmOK l D cas x A0 B) (IH : mx_IH l D cas x A0 B n)
    (hl : l.admits e) (hC : mx_Cy p s m args meth c D cas x A0 B y ey) (hR : mx_Rk R d c0 k0 r) (hER : mx_ER p l e R s m args below meth c Q D cas x A0 L0 c0 k0 ey.2.1 y r) (hEX : mx_EX p l e R s m args below meth c Q D cas x A0 L0 c0 k0 y r)
    {pc len cn : Nat} {u : UInt32} (hu : u.toNat = 2000 + cn) (hcn : cn ∈ mx_xs) {lo : mx_L} {rr : List Value} {h : mx_H} (hhB : h.1.1 = B) (hz : mx_stp (mx_run mx_nx n) (mx_up (mx_thr8 rr d y pc lo (.float u) (mx_vmx h))) = some r)
    {L : List Nat} {E : List va_E} {lc : mx_L} {ls : Array Slot} {H : Heap} {locs : List Loc} {cells slots : Nat} (hL : ∃ M, L = L0 ++ M) (hH : mx_Hr D cas x A0 L E h.2 H) (hO : mx_OL (fun q => L[q]?) x lo lc) (hLS : mx_LS ls lc) (hn : lc.length = mx_max y) (hS : va_S A0 s.heap H locs) (hc : c0 + cells = h.1.2.1) (hk : k0 + slots = h.1.2.2) {st' : List Value} {i : Instr} (hd : decode ey.2.1 pc = .ok (i, len))
    (hcase : mx_csz rr ≤ 8 → ((cn = 42 ∧ len = 1 ∧ i = .idiv ∧ ∃ a rest, st' = .int 0 :: .int a :: rest ∧ mx_csz rest ≤ 8) ∨ (cn = 41 ∧ len = 2 ∧ ∃ a k rest, i = .newarray a ∧ st' = .int k :: rest ∧ k < 0 ∧ mx_csz rest ≤ 8) ∨
      (cn = 40 ∧ len = 3 ∧ ∃ j a rest k t, i = .checkcast j ∧ st' = .ref a :: rest ∧ mx_csz rest ≤ 8 ∧ mx_tgt (mx_own y) j = some t ∧ mx_cast k t = some false ∧ ∃ cell : Cell, H[a]? = some cell ∧ cell.vm.isStatics = false ∧ s.vm.findClass (mx_tnm k) = some cell.cls))) :
    W p l e R s m args below meth c H locs cells slots Q (F0 m pc ls st') := by
  obtain ⟨hmi, hCx, hml, hlk, htab, hB⟩ := id hC
  obtain ⟨hx, hb, hT, hTb, hts, hown, hini, hA, hfl, hstr⟩ := id hCx
  obtain ⟨h8, hz'⟩ := mx_thr8_inv hz
  have hle := mx_stp_up_le hz' (mx_thr_le d y pc lo (.float u) (mx_vmx h))
  have hle1 : h.1.2.1 + 3 ≤ r.2.1.2.1 := hle.2.1
  have hle2 : h.1.2.2 + mx_NB ≤ r.2.1.2.2 := hle.2.2
  have hR3 := hR.2.2.1
  have hR4 := hR.2.2.2
  have hxc : mx_xc (mx_vmx h) (.float u) = some cn := by
    show (if 2000 ≤ u.toNat then mx_xg (u.toNat - 2000) else none) = some cn
    rw [hu, if_pos (Nat.le_add_right _ _), Nat.add_sub_cancel_left]
    unfold mx_xs at hcn
    unfold mx_xg
    simp only [List.mem_cons, List.not_mem_nil, or_false] at hcn
    rw [if_pos hcn]
  refine hVO p e R s m args below meth c ey.2.1 Q (mx_own y) pc ls H locs cells slots i len st' cn hl hx hb hown hts hB hlk hS (hLS.1.trans (hn.trans hml.symm)) (by have := hR.1; omega) (by have := hR.2.1; omega) (by omega) (by omega) hd (hcase h8) (fun rest' H1 q9 ce g1 g2 g3 g4 g5 g6 => ?_)
  exact mx_thr_ok (rest := rest') GL IH hz' hhB hl hC hR hER hEX hL (hH.grow g2) hO hLS hn g3 (by show c0 + (cells + 3) = h.1.2.1 + 3; omega) (by show k0 + (slots + mx_NB) = h.1.2.2 + mx_NB; omega) ⟨q9, rfl, by rw [hu]; exact hX cn hcn q9⟩ hxc g4 g5 g6 hcn
theorem mx_step (GL : mx_GL) (hX : ∀ c ∈ mx_xs, ∀ a, x (2000 + c) a) (hCO : mx_CallOK l D cas x A0 B) (hPO : mx_PrimOK l D cas x A0 B) (hVO : mx_VmOK l D cas x A0 B) (IH : mx_IH l D cas x A0 B n) : mx_IH l D cas x A0 B (n + 1) := by
  intro d y pc lo st h r hrun hhB p e R s m args below meth c Q L0 c0 k0 ey hl hC hR hER hEX
  replace hrun : mx_stp (mx_run mx_nx n) (mx_nx (d, y, pc, lo, st, h)) = some r := hrun
  unfold mx_nx at hrun
  dsimp only at hrun
  obtain ⟨hmi, hCx, hml, hlk, htab, hB⟩ := id hC
  obtain ⟨hx, hb, hT, hTb, hts, hown, hini, hA, hfl, hstr⟩ := id hCx
  cases hi : mx_ins y pc with
  | none => rw [hi] at hrun; cases hrun
  | some z =>
  obtain ⟨i, len⟩ := z
  rw [hi] at hrun
  dsimp only at hrun
  obtain ⟨hd, hok⟩ := mx_ins_inv hmi hi
  have go : ∀ {pc' : Nat} {lo' : mx_L} {st' : List Value} {h' : mx_H}, mx_run mx_nx n (d, y, pc', lo', st', h') = some r → h'.1.1 = B → mx_G p l e R s m args below meth c Q D cas x A0 s.heap L0 (mx_max y) c0 k0 pc' (lo', st', h') := fun hz hb' => IH d y _ _ _ _ r hz hb' p e R s m args below meth c Q L0 c0 k0 ey hl hC hR hER hEX
  have room : ∀ {pc' : Nat} {lo' : mx_L} {st' : List Value} {h' : mx_H}, mx_run mx_nx n (d, y, pc', lo', st', h') = some r → h'.1.2.1 ≤ c0 + R.cells ∧ h'.1.2.2 ≤ k0 + R.slots := by
    intro pc' lo' st' h' hz
    have hq := mx_run_qle n _ r hz
    have h1 := hq.2.1
    have h2 := hq.2.2
    have h3 := hR.2.2.1
    have h4 := hR.2.2.2
    dsimp only at h1 h2
    omega
  have sim : ∀ S : mx_S, mx_sim (mx_own y) (mx_isI y) i (lo, st, h) = some S → mx_run mx_nx n (d, y, pc + len, S.1, S.2.1, S.2.2) = some r → mx_G p l e R s m args below meth c Q D cas x A0 s.heap L0 (mx_max y) c0 k0 pc (lo, st, h) := by
    intro S hs hz
    refine mx_sim_ok hCx (fun b hb' => ?_) hd hok hs (room hz) (go hz ((mx_sim_le hs).1.trans hhB))
    rw [hhB]
    exact hB.2.2.1 b hb'
  unfold mx_nxi at hrun
  split at hrun
  · rename_i off
    have hok : (len == 3 && decide (0 ≤ (pc : Int) + off)) = true := hok
    simp only [Bool.and_eq_true, beq_iff_eq, decide_eq_true_eq] at hok
    obtain ⟨rfl, h0⟩ := hok
    have k := go hrun hhB
    intro L E lc ls st' H locs cells slots hL hH hO hLS hn hV hS hc hk
    exact lv_goto hx hb hd (mx_tg_eq h0) (k L E lc ls st' H locs cells slots hL hH hO hLS hn hV hS hc hk)
  · rename_i cnd off
    have hok : (len == 3 && decide (0 ≤ (pc : Int) + off)) = true := hok
    simp only [Bool.and_eq_true, beq_iff_eq, decide_eq_true_eq] at hok
    obtain ⟨rfl, h0⟩ := hok
    split at hrun
    · rename_i a rr
      have hz : mx_run mx_nx n (d, y, if mx_c cnd a 0 = true then mx_tg pc off else pc + 3, lo, rr, h) = some r := hrun
      intro L E lc ls st' H locs cells slots hL hH hO hLS hn hV hS hc hk
      obtain ⟨_, r', rfl, h1, h3⟩ := hV
      have h1 : _ = Value.int a := h1
      subst h1
      have kt : mx_c cnd a 0 = true → W p l e R s m args below meth c H locs cells slots Q (F0 m (mx_tg pc off) ls r') := fun q => by
        rw [if_pos q] at hz
        exact go hz hhB L E lc ls r' H locs cells slots hL hH hO hLS hn h3 hS hc hk
      have kf : ¬ mx_c cnd a 0 = true → W p l e R s m args below meth c H locs cells slots Q (F0 m (pc + 3) ls r') := fun q => by
        rw [if_neg q] at hz
        exact go hz hhB L E lc ls r' H locs cells slots hL hH hO hLS hn h3 hS hc hk
      cases cnd
      · exact lv_if_eq hx hb hd (mx_tg_eq h0) (fun z => kt (decide_eq_true z)) (fun z => kf (fun q => z (of_decide_eq_true q)))
      · exact lv_if_ne hx hb hd (mx_tg_eq h0) (fun z => kt (decide_eq_true z)) (fun z => kf (fun q => of_decide_eq_true q z))
      · exact lv_if_lt hx hb hd (mx_tg_eq h0) (fun z => kt (decide_eq_true z)) (fun z => kf (fun q => z (of_decide_eq_true q)))
      · exact lv_if_ge hx hb hd (mx_tg_eq h0) (fun z => kt (decide_eq_true z)) (fun z => kf (fun q => z (of_decide_eq_true q)))
      · exact lv_if_gt hx hb hd (mx_tg_eq h0) (fun z => kt (decide_eq_true z)) (fun z => kf (fun q => z (of_decide_eq_true q)))
      · exact lv_if_le hx hb hd (mx_tg_eq h0) (fun z => kt (decide_eq_true z)) (fun z => kf (fun q => z (of_decide_eq_true q)))
    · cases hrun
  · rename_i cnd off
    have hok : (len == 3 && decide (0 ≤ (pc : Int) + off)) = true := hok
    simp only [Bool.and_eq_true, beq_iff_eq, decide_eq_true_eq] at hok
    obtain ⟨rfl, h0⟩ := hok
    split at hrun
    · rename_i b a rr
      have hz : mx_run mx_nx n (d, y, if mx_c cnd a b = true then mx_tg pc off else pc + 3, lo, rr, h) = some r := hrun
      intro L E lc ls st' H locs cells slots hL hH hO hLS hn hV hS hc hk
      obtain ⟨_, _, rfl, h1, _, r', rfl, h2, h3⟩ := hV
      have h1 : _ = Value.int b := h1
      have h2 : _ = Value.int a := h2
      subst h1; subst h2
      have kt : mx_c cnd a b = true → W p l e R s m args below meth c H locs cells slots Q (F0 m (mx_tg pc off) ls r') := fun q => by
        rw [if_pos q] at hz
        exact go hz hhB L E lc ls r' H locs cells slots hL hH hO hLS hn h3 hS hc hk
      have kf : ¬ mx_c cnd a b = true → W p l e R s m args below meth c H locs cells slots Q (F0 m (pc + 3) ls r') := fun q => by
        rw [if_neg q] at hz
        exact go hz hhB L E lc ls r' H locs cells slots hL hH hO hLS hn h3 hS hc hk
      cases cnd
      · exact lv_icmp_eq hx hb hd (mx_tg_eq h0) (fun z => kt (decide_eq_true z)) (fun z => kf (fun q => z (of_decide_eq_true q)))
      · exact lv_icmp_ne hx hb hd (mx_tg_eq h0) (fun z => kt (decide_eq_true z)) (fun z => kf (fun q => of_decide_eq_true q z))
      · exact lv_icmp_lt hx hb hd (mx_tg_eq h0) (fun z => kt (decide_eq_true z)) (fun z => kf (fun q => z (of_decide_eq_true q)))
      · exact lv_icmp_ge hx hb hd (mx_tg_eq h0) (fun z => kt (decide_eq_true z)) (fun z => kf (fun q => z (of_decide_eq_true q)))
      · exact lv_icmp_gt hx hb hd (mx_tg_eq h0) (fun z => kt (decide_eq_true z)) (fun z => kf (fun q => z (of_decide_eq_true q)))
      · exact lv_icmp_le hx hb hd (mx_tg_eq h0) (fun z => kt (decide_eq_true z)) (fun z => kf (fun q => z (of_decide_eq_true q)))
    · cases hrun
  · rename_i off
    have hok : (len == 3 && decide (0 ≤ (pc : Int) + off)) = true := hok
    simp only [Bool.and_eq_true, beq_iff_eq, decide_eq_true_eq] at hok
    obtain ⟨rfl, h0⟩ := hok
    split at hrun
    · have k := go hrun hhB
      intro L E lc ls st' H locs cells slots hL hH hO hLS hn hV hS hc hk
      obtain ⟨_, r', rfl, ⟨a, h1, -⟩, h3⟩ := hV
      subst h1
      exact lv_ifnonnull hx hb hd (mx_tg_eq h0) (k L E lc ls r' H locs cells slots hL hH hO hLS hn h3 hS hc hk)
    · have k := go hrun hhB
      intro L E lc ls st' H locs cells slots hL hH hO hLS hn hV hS hc hk
      obtain ⟨_, r', rfl, h1, h3⟩ := hV
      have h1 : _ = Value.null := h1
      subst h1
      exact lv_ifnonnullN hx hb hd (k L E lc ls r' H locs cells slots hL hH hO hLS hn h3 hS hc hk)
    · cases hrun
  · rename_i df lw hi' offs
    have hok : (decide ((offs.size : Int) = hi' - lw + 1) && decide (-2147483648 ≤ lw) && decide (hi' ≤ 2147483647) && decide (0 ≤ (pc : Int) + df) && offs.toList.all (fun o => decide (0 ≤ (pc : Int) + o))) = true := hok
    simp only [Bool.and_eq_true, decide_eq_true_eq, List.all_eq_true] at hok
    obtain ⟨⟨⟨⟨e1, e2⟩, e3⟩, e4⟩, e5⟩ := hok
    split at hrun
    · rename_i a rr
      have hz : mx_run mx_nx n (d, y, mx_tg pc (mx_tsw a lw offs.toList df), lo, rr, h) = some r := hrun
      intro L E lc ls st' H locs cells slots hL hH hO hLS hn hV hS hc hk
      obtain ⟨_, r', rfl, h1, h3⟩ := hV
      have h1 : _ = Value.int a := h1
      subst h1
      have hlen : (offs.toList.length : Int) = hi' - lw + 1 := by rw [Array.length_toList]; exact e1
      rw [mx_tsw_spec a df offs.toList lw e2 (by omega)] at hz
      by_cases g : lw ≤ a.toInt ∧ a.toInt < lw + offs.toList.length
      · rw [if_pos g] at hz
        have hlt : (a.toInt - lw).toNat < offs.toList.length := by omega
        rw [List.getElem?_eq_getElem hlt] at hz
        have ho : offs[(a.toInt - lw).toNat]? = some (offs.toList[(a.toInt - lw).toNat]) := by
          rw [← Array.getElem?_toList, List.getElem?_eq_getElem hlt]
        exact lv_tableIn hx hb hd (by omega) (by omega) ho (mx_tg_eq (e5 _ (List.getElem_mem hlt))) (go hz hhB L E lc ls r' H locs cells slots hL hH hO hLS hn h3 hS hc hk)
      · rw [if_neg g] at hz
        exact lv_tableOut hx hb hd (by omega) (mx_tg_eq e4) (go hz hhB L E lc ls r' H locs cells slots hL hH hO hLS hn h3 hS hc hk)
    · cases hrun
  · rename_i df ps
    have hok : ((ps.toList.zip (ps.toList.drop 1)).all (fun (a, next) => a.1 < next.1) && decide (0 ≤ (pc : Int) + df) && ps.toList.all (fun o => decide (0 ≤ (pc : Int) + o.2) && decide (-2147483648 ≤ o.1) && decide (o.1 ≤ 2147483647))) = true := hok
    rw [Bool.and_eq_true, Bool.and_eq_true] at hok
    obtain ⟨⟨e1, e2⟩, e3⟩ := hok
    have e2 := of_decide_eq_true e2
    simp only [Bool.and_eq_true, decide_eq_true_eq, List.all_eq_true] at e3
    split at hrun
    · rename_i a rr
      have hz : mx_run mx_nx n (d, y, mx_tg pc (mx_lsw a ps.toList df), lo, rr, h) = some r := hrun
      intro L E lc ls st' H locs cells slots hL hH hO hLS hn hV hS hc hk
      obtain ⟨_, r', rfl, h1, h3⟩ := hV
      have h1 : _ = Value.int a := h1
      subst h1
      have hsp := mx_lsw_spec a df ps.toList (fun o ho => ⟨(e3 o ho).1.2, (e3 o ho).2⟩)
      have h0 : 0 ≤ (pc : Int) + mx_lsw a ps.toList df := by
        rcases mx_lsw_in a df ps.toList with z | ⟨o, ho, z⟩
        · rw [z]; exact e2
        · rw [z]; exact (e3 o ho).1.1
      exact lv_lookup hx hb hd e1 hsp.symm (mx_tg_eq h0) (go hz hhB L E lc ls r' H locs cells slots hL hH hO hLS hn h3 hS hc hk)
    · cases hrun
  · have hok : (len == 1) = true := hok
    obtain rfl : len = 1 := eq_of_beq hok
    split at hrun
    · rename_i v
      split at hrun
      · rename_i hty
        have hz : some ((.inl (some (.int v)), h) : mx_R) = some r := hrun
        cases hz
        intro L E lc ls st' H locs cells slots hL hH hO hLS hn hV hS hc hk
        obtain ⟨_, r', rfl, h1, h3⟩ := hV
        have h1 : _ = Value.int v := h1
        have h3 : r' = [] := h3
        subst h1; subst h3
        exact hER L E pc ls _ H locs cells slots _ hL hH hS hc hk hd (Or.inl ⟨rfl, v, rfl, rfl, hty⟩)
      · cases hrun
    · cases hrun
  · have hok : (len == 1) = true := hok
    obtain rfl : len = 1 := eq_of_beq hok
    split at hrun
    · rename_i pp
      split at hrun
      · rename_i hty
        have hz : some ((.inl (some (.ref pp)), h) : mx_R) = some r := hrun
        cases hz
        intro L E lc ls st' H locs cells slots hL hH hO hLS hn hV hS hc hk
        obtain ⟨v', r', rfl, h1, h3⟩ := hV
        have h3 : r' = [] := h3
        subst h3
        obtain ⟨a, ha, h1'⟩ := id h1
        exact hER L E pc ls _ H locs cells slots _ hL hH hS hc hk hd (Or.inr (Or.inl ⟨rfl, hty, .ref pp, v', rfl, Or.inr ⟨a, ha⟩, h1, rfl⟩))
      · cases hrun
    · split at hrun
      · rename_i hty
        have hz : some ((.inl (some .null), h) : mx_R) = some r := hrun
        cases hz
        intro L E lc ls st' H locs cells slots hL hH hO hLS hn hV hS hc hk
        obtain ⟨v', r', rfl, h1, h3⟩ := hV
        have h3 : r' = [] := h3
        subst h3
        exact hER L E pc ls _ H locs cells slots _ hL hH hS hc hk hd (Or.inr (Or.inl ⟨rfl, hty, .null, v', rfl, Or.inl h1, h1, rfl⟩))
      · cases hrun
    · cases hrun
  · have hok : (len == 1) = true := hok
    obtain rfl : len = 1 := eq_of_beq hok
    split at hrun
    · split at hrun
      · rename_i hty
        have hz : some ((.inl none, h) : mx_R) = some r := hrun
        cases hz
        intro L E lc ls st' H locs cells slots hL hH hO hLS hn hV hS hc hk
        have hV : st' = [] := hV
        subst hV
        exact hER L E pc ls _ H locs cells slots _ hL hH hS hc hk hd (Or.inr (Or.inr ⟨rfl, rfl, hty, rfl⟩))
      · cases hrun
    · cases hrun
  · rename_i j
    have hok : (len == 3) = true := hok
    obtain rfl : len = 3 := eq_of_beq hok
    exact mx_call_ok GL hCO hPO IH hrun hhB (Or.inr (Or.inr (Or.inl ⟨rfl, rfl, rfl⟩))) rfl hd hl hC hR hER hEX
  · rename_i j
    have hok : (len == 3) = true := hok
    obtain rfl : len = 3 := eq_of_beq hok
    exact mx_call_ok GL hCO hPO IH hrun hhB (Or.inr (Or.inl ⟨rfl, rfl, rfl⟩)) rfl hd hl hC hR hER hEX
  · rename_i j
    have hok : (len == 3) = true := hok
    obtain rfl : len = 3 := eq_of_beq hok
    exact mx_call_ok GL hCO hPO IH hrun hhB (Or.inl ⟨rfl, rfl, rfl⟩) rfl hd hl hC hR hER hEX
  · rename_i j kk
    have hok : (len == 5) = true := hok
    obtain rfl : len = 5 := eq_of_beq hok
    exact mx_call_ok GL hCO hPO IH hrun hhB (Or.inr (Or.inr (Or.inr ⟨rfl, rfl, kk, rfl⟩))) rfl hd hl hC hR hER hEX
  · have hok : (len == 1) = true := hok
    obtain rfl : len = 1 := eq_of_beq hok
    split at hrun
    · rename_i q rr
      cases hxc : mx_xc h (.ref q) with
      | none =>
        unfold mx_thr at hrun
        rw [hxc] at hrun
        cases hrun
      | some cn =>
        have hcn := mx_xc_in hxc
        obtain ⟨⟨cq, F⟩, ho, hg⟩ := Option.bind_eq_some_iff.mp (show (mx_obj h q).bind (fun z => mx_xg z.1) = some cn from hxc)
        obtain rfl := (mx_xg_in hg).1
        intro L E lc ls st' H locs cells slots hL hH hO hLS hn hV hS hc hk
        obtain ⟨_, r', rfl, ⟨a, h1, ha⟩, h3⟩ := hV
        subst h1
        have he : h.2[q]? = some (.inr (cn, F)) := by
          unfold mx_obj at ho
          split at ho
          · rename_i z hz
            rw [hz]
            exact congrArg (fun w => some (Sum.inr w)) (Option.some.inj ho)
          · cases ho
        obtain ⟨e', he', hzip, hEe⟩ := mx_Hr.entry hH he ha
        obtain ⟨fs, rfl, -, -⟩ := hEe
        obtain ⟨r0, hr0, cell, q1, q2, q3, q4⟩ := hH.2.2.2.1 q _ hzip
        have hnm : r0.1 = mx_cls cn := by
          unfold mx_xs at hcn
          simp only [List.mem_cons, List.not_mem_nil, or_false] at hcn
          dsimp only at hr0
          rcases hcn with z | z | z | z | z | z <;> (subst z; cases hr0; rfl)
        exact vx_athrow hx hb hd (mx_thr_ok GL IH hrun hhB hl hC hR hER hEX hL hH hO hLS hn hS hc hk ⟨a, rfl, ha⟩ hxc q1 q3 (by rw [← hnm, q2]; exact (hTb.2.1.1 cn r0 hr0).2.1) hcn)
    · cases hrun
  · have hok : (len == 1) = true := hok
    obtain rfl : len = 1 := eq_of_beq hok
    split at hrun
    · rename_i b a rr
      split at hrun
      · rename_i hb0
        subst hb0
        intro L E lc ls st' H locs cells slots hL hH hO hLS hn hV hS hc hk
        obtain ⟨_, _, rfl, h1, _, r', rfl, h2, h3⟩ := hV
        have h1 : _ = Value.int 0 := h1
        have h2 : _ = Value.int a := h2
        subst h1; subst h2
        exact mx_vm_ok (cn := 42) GL hX hVO IH hl hC hR hER hEX (by decide) (by decide) hhB hrun hL hH hO hLS hn hS hc hk hd (fun h8 => Or.inl ⟨rfl, rfl, rfl, a, r', rfl, by rw [h3.csz]; exact h8⟩)
      · rename_i hb0
        exact sim (lo, .int (a / b) :: rr, h) (by show (if b = 0 then none else some _) = _; rw [if_neg hb0]) hrun
    · cases hrun
  · rename_i at'
    have hok : (len == 2) = true := hok
    obtain rfl : len = 2 := eq_of_beq hok
    split at hrun
    · rename_i k rr
      split at hrun
      · rename_i hk0
        intro L E lc ls st' H locs cells slots hL hH hO hLS hn hV hS hc hk
        obtain ⟨_, r', rfl, h1, h3⟩ := hV
        have h1 : _ = Value.int k := h1
        subst h1
        exact mx_vm_ok (cn := 41) GL hX hVO IH hl hC hR hER hEX (by decide) (by decide) hhB hrun hL hH hO hLS hn hS hc hk hd (fun h8 => Or.inr (Or.inl ⟨rfl, rfl, at', k, r', rfl, rfl, hk0, by rw [h3.csz]; exact h8⟩))
      · split at hrun
        · rename_i S hs
          exact sim S hs hrun
        · cases hrun
    · cases hrun
  · rename_i j
    have hok : (len == 3) = true := hok
    obtain rfl : len = 3 := eq_of_beq hok
    split at hrun
    · rename_i rr
      exact sim (lo, .null :: rr, h) rfl hrun
    · rename_i pp rr
      split at hrun
      · rename_i t ht
        split at hrun
        · rename_i hcast
          exact sim (lo, .ref pp :: rr, h) (by show mx_cc (mx_own y) j (lo, .ref pp :: rr, h) = some (lo, .ref pp :: rr, h); unfold mx_cc; dsimp only; rw [ht]; dsimp only; rw [if_pos hcast]) hrun
        · rename_i hcast
          intro L E lc ls st' H locs cells slots hL hH hO hLS hn hV hS hc hk
          obtain ⟨_, r', rfl, ⟨a, h1, ha⟩, h3⟩ := hV
          subst h1
          have hcell := mx_kd_nm hTb.2.1 hH ha hcast
          exact mx_vm_ok (cn := 40) GL hX hVO IH hl hC hR hER hEX (by decide) (by decide) hhB hrun hL hH hO hLS hn hS hc hk hd (fun h8 => Or.inr (Or.inr ⟨rfl, rfl, j, a, r', mx_kd h pp, t, rfl, rfl, by rw [h3.csz]; exact h8, ht, hcast, hcell⟩))
        · cases hrun
      · cases hrun
    · cases hrun
  · split at hrun
    · rename_i S hs
      exact sim S hs hrun
    · cases hrun
theorem mx_all (GL : mx_GL) (hX : ∀ c ∈ mx_xs, ∀ a, x (2000 + c) a) (hCO : mx_CallOK l D cas x A0 B) (hPO : mx_PrimOK l D cas x A0 B) (hVO : mx_VmOK l D cas x A0 B) : ∀ n, mx_IH l D cas x A0 B n
  | 0 => fun _ _ _ _ _ _ _ h => by cases h
  | n + 1 => mx_step GL hX hCO hPO hVO (mx_all GL hX hCO hPO hVO n)
end MXS
