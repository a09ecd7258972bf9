/-! THE PLAIN LAW OF THE WINTER: warmth, rate, kinds, a week that goes -/
def rg (x : Int32) (lo hi : Int) : Prop := lo ≤ x.toInt ∧ x.toInt ≤ hi
theorem i_add {x y : Int32} (h1 : -2147483648 ≤ x.toInt + y.toInt) (h2 : x.toInt + y.toInt < 2147483648) : (x + y).toInt = x.toInt + y.toInt := by
  rw [Int32.toInt_add]
  exact Int.bmod_eq_of_le (by simp; omega) (by simp; omega)
theorem i_sub {x y : Int32} (h1 : -2147483648 ≤ x.toInt - y.toInt) (h2 : x.toInt - y.toInt < 2147483648) : (x - y).toInt = x.toInt - y.toInt := by
  rw [Int32.toInt_sub]
  exact Int.bmod_eq_of_le (by simp; omega) (by simp; omega)
theorem rg.nI {x : Int32} {lo hi : Int} (h : rg x lo hi) (h0 : 0 ≤ lo) : ∃ k : Nat, lo ≤ k ∧ (k : Int) ≤ hi ∧ k < 2 ^ 31 ∧ x = nI k ∧ x.toInt = k := by
  have h3 : ¬ x < 0 := by
    rw [Int32.lt_iff_toInt_lt]
    have : (0 : Int32).toInt = 0 := rfl
    have := h.1
    omega
  obtain ⟨k, hk, e⟩ := nI_of h3
  have e2 : x.toInt = k := by rw [e, nI_toInt hk]
  exact ⟨k, by have := h.1; omega, by have := h.2; omega, hk, e, e2⟩
theorem rg_nI {k : Nat} {lo hi : Int} (h1 : lo ≤ k) (h2 : (k : Int) ≤ hi) (h3 : k < 2 ^ 31) : rg (nI k) lo hi := by
  unfold rg
  rw [nI_toInt h3]
  exact ⟨h1, h2⟩
theorem rg.cl {x : Int32} {lo hi : Int} (h : rg x lo hi) (h0 : 0 ≤ lo) : (x.toNatClampNeg : Int) = x.toInt := by
  have := h.1
  show ((x.toInt.toNat : Nat) : Int) = x.toInt
  omega
theorem rg.inb {x : Int32} {lo hi : Int} {n : Nat} (h : rg x lo hi) (h0 : 0 ≤ lo) (h1 : hi < n) : mx_inb x n = true := by
  unfold mx_inb
  have a := h.cl h0
  have b := h.1
  have c := h.2
  rw [decide_eq_true_iff]
  rintro (d | d)
  · rw [Int32.lt_iff_toInt_lt] at d
    have : (0 : Int32).toInt = 0 := rfl
    omega
  · omega
theorem rg.ne0 {x : Int32} {lo hi : Int} (h : rg x lo hi) (h0 : 0 < lo) : ¬ x = 0 := by
  intro e
  subst e
  have := h.1
  have : (0 : Int32).toInt = 0 := rfl
  omega
theorem le_rg {x a b : Int32} (h : a ≤ x ∧ x ≤ b) : rg x a.toInt b.toInt := ⟨Int32.le_iff_toInt_le.mp h.1, Int32.le_iff_toInt_le.mp h.2⟩
theorem rg_le {x a b : Int32} {lo hi : Int} (h : rg x lo hi) (ha : a.toInt = lo) (hb : b.toInt = hi) : a ≤ x ∧ x ≤ b := ⟨Int32.le_iff_toInt_le.mpr (by rw [ha]; exact h.1), Int32.le_iff_toInt_le.mpr (by rw [hb]; exact h.2)⟩
/-- what holds of the ints from a on, n of them, holds of one between -/
theorem rg_all (P : Int32 → Prop) (a : Int) (n : Nat) (h : ∀ j : Fin n, P (Int32.ofInt (a + j.val))) {x : Int32} (hx : rg x a (a + n - 1)) : P x := by
  have h1 := hx.1
  have h2 := hx.2
  have hj : (x.toInt - a).toNat < n := by omega
  have := h ⟨(x.toInt - a).toNat, hj⟩
  have e : a + (((x.toInt - a).toNat : Nat) : Int) = x.toInt := by omega
  dsimp only at this
  rw [e, Int32.ofInt_toInt] at this
  exact this
def wmt (o r : Nat → Int32) (w p : Int32) : Int32 := if p = 0 then o w.toNatClampNeg else if p = 1 then o w.toNatClampNeg / 2 + 4 else if p = 2 then r 0 else o w.toNatClampNeg / 4 + 6
def rtF (r : Nat → Int32) (t : Int32) : Int32 := if t < 0 then r 1 / 2 else (r 1 <<< (t / 10 &&& 31)) * (10 + (t - t / 10 * 10)) / 10
def kndF (o a r : Nat → Int32) (w p : Int32) : Int32 := if wmt o r w p < r 2 then 4 else if r 4 ≤ wmt o r w p then 3 else if r 3 ≤ wmt o r w p then 2 else if a w.toNatClampNeg < 3 then 5 else if wmt o r w p < 6 then 1 else 0
def wgt (b : Nat → Int32) : Int32 := b 1 + b 2 + b 3
def alv (b : Nat → Int32) : Bool := decide (0 < b 1) && decide (0 < b 2)
def usK (pl k : Int32) : Int32 := if k = 1 then pl * 3 / 4 else if k = 4 then pl * 3 / 4 else if k = 2 then 2 * pl else if k = 3 then 2 * (2 * pl) else pl
def drK (a k : Int32) : Int32 := if k = 1 then (10 - a) * 2 / 2 else if k = 4 then (10 - a) * 2 / 2 + 1 else if k = 2 then (10 - a) * 2 + 5 else if k = 3 then (10 - a) * 2 + 5 + 20 else if k = 5 then 2 * ((10 - a) * 2) else (10 - a) * 2
def hrK (k : Int32) : Int32 := if k = 4 then 1 else 0
def mx0 (x : Int32) : Int32 := if 0 < x then x else 0
def mn9 (x : Int32) : Int32 := if x < 9 then x else 9
def usF (o a r b : Nat → Int32) : Int32 := usK (wgt b * rtF r (wmt o r (b 6) (b 5)) / 1000) (kndF o a r (b 6) (b 5))
def drF (o a r b : Nat → Int32) : Int32 := drK (a (b 6).toNatClampNeg) (kndF o a r (b 6) (b 5))
/-- a body behind a week -/
def psF (o a r b : Nat → Int32) : Nat → Int32 := fun j => if j = 6 then b 6 + 1 else if alv b = true then (if j = 1 then mx0 (b 1 - usF o a r b) else if j = 2 then mx0 (b 2 - drF o a r b) else if j = 4 then mn9 (b 4 + hrK (kndF o a r (b 6) (b 5))) else b j) else b j
def BK (b : Nat → Int32) : Prop := rg (b 0) 50 400 ∧ rg (b 1) 0 2000 ∧ rg (b 2) 0 2000 ∧ rg (b 3) 100 3000 ∧ rg (b 4) 0 9 ∧ rg (b 5) 0 3 ∧ rg (b 6) 0 24
def WK (o a r : Nat → Int32) : Prop := (∀ w, w < 24 → rg (o w) (-20) 30) ∧ (∀ w, w < 24 → rg (a w) 0 9) ∧ rg (r 0) 0 15 ∧ rg (r 1) 1 50
theorem knd_cases (o a r : Nat → Int32) (w p : Int32) : kndF o a r w p = 0 ∨ kndF o a r w p = 1 ∨ kndF o a r w p = 2 ∨ kndF o a r w p = 3 ∨ kndF o a r w p = 4 ∨ kndF o a r w p = 5 := by
  unfold kndF
  (repeat' split) <;> simp
theorem wmt_rg {o a r : Nat → Int32} (hW : WK o a r) {w p : Int32} (hw : rg w 0 23) : rg (wmt o r w p) (-20) 30 := by
  have ho := hW.1 w.toNatClampNeg (by have := hw.cl (by decide); have := hw.2; omega)
  unfold wmt
  split
  · exact ho
  · split
    · exact rg_all (fun x => rg (x / 2 + 4) (-20) 30) (-20) 51 (fun j => (show ∀ j : Fin 51, (-20 ≤ (Int32.ofInt (-20 + (j.val : Int)) / 2 + 4).toInt ∧ (Int32.ofInt (-20 + (j.val : Int)) / 2 + 4).toInt ≤ 30) by decide +kernel) j) ho
    · split
      · have := hW.2.2.1
        exact ⟨by have := this.1; omega, by have := this.2; omega⟩
      · exact rg_all (fun x => rg (x / 4 + 6) (-20) 30) (-20) 51 (fun j => (show ∀ j : Fin 51, (-20 ≤ (Int32.ofInt (-20 + (j.val : Int)) / 4 + 6).toInt ∧ (Int32.ofInt (-20 + (j.val : Int)) / 4 + 6).toInt ≤ 30) by decide +kernel) j) ho
theorem sm31 : ∀ j : Fin 4, ((nI j.val &&& 31).toBitVec.smod 32).toNat = j.val := by decide +kernel
theorem rt_rg {r : Nat → Int32} (h1 : rg (r 1) 1 50) {t : Int32} (ht : rg t (-20) 30) : ∃ k : Nat, k ≤ 760 ∧ rtF r t = nI k := by
  obtain ⟨c, hc1, hc2, hc3, hc, -⟩ := h1.nI (by decide)
  unfold rtF
  split
  · refine ⟨c / 2, by omega, ?_⟩
    rw [hc]
    exact pk_div (d := 2) hc3 (by decide) (by decide)
  · rename_i h0
    obtain ⟨m, hm, e⟩ := nI_of h0
    have hm2 : m ≤ 30 := by
      have := ht.2
      rw [e, nI_toInt hm] at this
      omega
    subst e
    have hq : m / 10 < 4 := by omega
    have e1 : nI m / 10 = nI (m / 10) := pk_div (d := 10) hm (by decide) (by decide)
    have e2 : nI m - nI (m / 10) * 10 = nI (m % 10) := by
      rw [← e1]
      exact pk_rem (d := 10) hm (by decide) (by decide)
    rw [e1, e2, hc]
    have h8 : c * 2 ^ (m / 10) ≤ 50 * 2 ^ 3 := Nat.mul_le_mul (by omega) (Nat.pow_le_pow_right (by decide) (by omega))
    have e3 : nI c <<< (nI (m / 10) &&& 31) = nI (c * 2 ^ (m / 10)) := pk_shlN _ (m / 10) (sm31 ⟨m / 10, hq⟩) (by omega)
    rw [e3]
    have e4 : (10 : Int32) + nI (m % 10) = nI (10 + m % 10) := nI_add 10 (m % 10)
    rw [e4, pk_mul]
    have h9 : c * 2 ^ (m / 10) * (10 + m % 10) ≤ 400 * 19 := Nat.mul_le_mul h8 (by omega)
    refine ⟨c * 2 ^ (m / 10) * (10 + m % 10) / 10, by omega, ?_⟩
    exact pk_div (d := 10) (by omega) (by decide) (by decide)
theorem wgt_nI {b : Nat → Int32} (hb : BK b) : ∃ k : Nat, 100 ≤ k ∧ k ≤ 7000 ∧ wgt b = nI k := by
  obtain ⟨x, h1, h2, -, e1, -⟩ := hb.2.1.nI (by decide)
  obtain ⟨y, h3, h4, -, e2, -⟩ := hb.2.2.1.nI (by decide)
  obtain ⟨z, h5, h6, -, e3, -⟩ := hb.2.2.2.1.nI (by decide)
  refine ⟨x + y + z, by omega, by omega, ?_⟩
  unfold wgt
  rw [e1, e2, e3, nI_add, nI_add]
theorem wgt_ne {b : Nat → Int32} (hb : BK b) : ¬ wgt b = 0 := by
  obtain ⟨k, h1, h2, e⟩ := wgt_nI hb
  rw [e]
  exact nI_ne0 (by omega) (by omega)
theorem us_nI {o a r b : Nat → Int32} (hW : WK o a r) (hb : BK b) (hw : rg (b 6) 0 23) : ∃ k : Nat, k ≤ 30000 ∧ usF o a r b = nI k := by
  obtain ⟨x, h1, h2, e1⟩ := wgt_nI hb
  obtain ⟨y, h3, e2⟩ := rt_rg hW.2.2.2 (wmt_rg (p := b 5) hW hw)
  have hm : x * y ≤ 7000 * 760 := Nat.mul_le_mul h2 h3
  have e3 : wgt b * rtF r (wmt o r (b 6) (b 5)) / 1000 = nI (x * y / 1000) := by
    rw [e1, e2, pk_mul]
    exact pk_div (d := 1000) (by omega) (by decide) (by decide)
  have hp : x * y / 1000 ≤ 5320 := by omega
  unfold usF
  rw [e3]
  generalize x * y / 1000 = p at hp
  have h34 : nI p * 3 / 4 = nI (p * 3 / 4) := by
    rw [show (3 : Int32) = nI 3 from rfl, pk_mul]
    exact pk_div (d := 4) (by omega) (by decide) (by decide)
  have h22 : (2 : Int32) * nI p = nI (2 * p) := pk_mul 2 p
  have h44 : (2 : Int32) * nI (2 * p) = nI (2 * (2 * p)) := pk_mul 2 (2 * p)
  unfold usK
  rw [h34, h22, h44]
  split
  · exact ⟨_, by omega, rfl⟩
  · split
    · exact ⟨_, by omega, rfl⟩
    · split
      · exact ⟨_, by omega, rfl⟩
      · split
        · exact ⟨_, by omega, rfl⟩
        · exact ⟨_, by omega, rfl⟩
theorem dr_nI {o a r b : Nat → Int32} (hW : WK o a r) (hw : rg (b 6) 0 23) : ∃ k : Nat, k ≤ 100 ∧ drF o a r b = nI k := by
  have ha := hW.2.1 (b 6).toNatClampNeg (by have := hw.cl (by decide); have := hw.2; omega)
  obtain ⟨x, h1, h2, -, e1, -⟩ := ha.nI (by decide)
  unfold drF drK
  rw [e1]
  have e2 : (10 : Int32) - nI x = nI (10 - x) := pk_sub (a := 10) (by omega)
  have e3 : nI (10 - x) * 2 = nI ((10 - x) * 2) := pk_mul _ 2
  have e4 : nI ((10 - x) * 2) / 2 = nI ((10 - x) * 2 / 2) := pk_div (d := 2) (by omega) (by decide) (by decide)
  have e5 : nI ((10 - x) * 2 / 2) + 1 = nI ((10 - x) * 2 / 2 + 1) := nI_add _ 1
  have e6 : nI ((10 - x) * 2) + 5 = nI ((10 - x) * 2 + 5) := nI_add _ 5
  have e7 : nI ((10 - x) * 2 + 5) + 20 = nI ((10 - x) * 2 + 5 + 20) := nI_add _ 20
  have e8 : (2 : Int32) * nI ((10 - x) * 2) = nI (2 * ((10 - x) * 2)) := pk_mul 2 _
  rw [e2, e3, e4, e5, e6, e7, e8]
  split
  · exact ⟨_, by omega, rfl⟩
  · split
    · exact ⟨_, by omega, rfl⟩
    · split
      · exact ⟨_, by omega, rfl⟩
      · split
        · exact ⟨_, by omega, rfl⟩
        · split
          · exact ⟨_, by omega, rfl⟩
          · exact ⟨_, by omega, rfl⟩
/-- both ways of taking off, at least 0 -/
theorem mx0_sub {x u : Nat} (hx : x < 2 ^ 30) (hu : u < 2 ^ 30) : mx0 (nI x - nI u) = nI (x - u) ∧ (if nI x < nI u then 0 else nI x - nI u) = nI (x - u) := by
  unfold mx0
  by_cases h : x < u
  · have hn := pk_sneg hu h
    have h2 : ¬ (0 : Int32) < nI x - nI u := by
      rw [Int32.lt_iff_toInt_lt] at hn ⊢
      omega
    rw [if_neg h2, if_pos (nI_lt h (by omega)), Nat.sub_eq_zero_of_le (Nat.le_of_lt h)]
    exact ⟨rfl, rfl⟩
  · have h : u ≤ x := by omega
    rw [if_neg (nI_nlt h (by omega)), pk_sub h]
    refine ⟨?_, rfl⟩
    split
    · rfl
    · rename_i c
      by_cases e : x - u = 0
      · rw [e]; rfl
      · exact absurd (nI_lt (a := 0) (b := x - u) (by omega) (by omega)) c
theorem BK.wk {b : Nat → Int32} (h : BK b) : rg (b 6) 0 24 := h.2.2.2.2.2.2
theorem ps_BK {o a r b : Nat → Int32} (hW : WK o a r) (hb : BK b) (hw : rg (b 6) 0 23) : BK (psF o a r b) ∧ (psF o a r b) 6 = b 6 + 1 := by
  obtain ⟨h0, h1, h2, h3, h4, h5, h6⟩ := id hb
  have e6 : (psF o a r b) 6 = b 6 + 1 := if_pos rfl
  have hwk : rg (b 6 + 1) 0 24 := by
    have a1 := hw.1
    have a2 := hw.2
    have a3 : (1 : Int32).toInt = 1 := rfl
    unfold rg
    rw [i_add (by omega) (by omega), a3]
    omega
  refine ⟨?_, e6⟩
  by_cases ha : alv b = true
  · have p0 : psF o a r b 0 = b 0 := by unfold psF; rw [if_neg (by decide), if_pos ha]; rfl
    have p1 : psF o a r b 1 = mx0 (b 1 - usF o a r b) := by unfold psF; rw [if_neg (by decide), if_pos ha]; rfl
    have p2 : psF o a r b 2 = mx0 (b 2 - drF o a r b) := by unfold psF; rw [if_neg (by decide), if_pos ha]; rfl
    have p3 : psF o a r b 3 = b 3 := by unfold psF; rw [if_neg (by decide), if_pos ha]; rfl
    have p4 : psF o a r b 4 = mn9 (b 4 + hrK (kndF o a r (b 6) (b 5))) := by unfold psF; rw [if_neg (by decide), if_pos ha]; rfl
    have p5 : psF o a r b 5 = b 5 := by unfold psF; rw [if_neg (by decide), if_pos ha]; rfl
    unfold BK
    rw [p0, p1, p2, p3, p4, p5, e6]
    obtain ⟨u, hu, eu⟩ := us_nI hW hb hw
    obtain ⟨v, hv, ev⟩ := dr_nI (b := b) hW hw
    obtain ⟨x, -, hx, -, ex, -⟩ := h1.nI (by decide)
    obtain ⟨y, -, hy, -, ey, -⟩ := h2.nI (by decide)
    refine ⟨h0, ?_, ?_, h3, ?_, h5, hwk⟩
    · rw [eu, ex, (mx0_sub (by omega) (by omega)).1]
      exact rg_nI (by omega) (by omega) (by omega)
    · rw [ev, ey, (mx0_sub (by omega) (by omega)).1]
      exact rg_nI (by omega) (by omega) (by omega)
    · obtain ⟨z, -, hz, -, ez, -⟩ := h4.nI (by decide)
      rw [ez]
      unfold mn9 hrK
      have e1 : nI z + 1 = nI (z + 1) := nI_add z 1
      have e0 : nI z + 0 = nI z := nI_add z 0
      split
      · rw [e1] at *
        rename_i c
        split
        · rename_i c2
          have c2 : nI (z + 1) < nI 9 := c2
          have := (nI_ltI (by omega) (by decide)).mp c2
          exact rg_nI (by omega) (by omega) (by omega)
        · exact rg_nI (k := 9) (by decide) (by decide) (by decide)
      · rw [e0]
        split
        · exact rg_nI (by omega) (by omega) (by omega)
        · exact rg_nI (k := 9) (by decide) (by decide) (by decide)
  · have pj : ∀ j, j ≠ 6 → psF o a r b j = b j := fun j hj => by unfold psF; rw [if_neg hj, if_neg ha]
    unfold BK
    rw [pj 0 (by decide), pj 1 (by decide), pj 2 (by decide), pj 3 (by decide), pj 4 (by decide), pj 5 (by decide), e6]
    exact ⟨h0, h1, h2, h3, h4, h5, hwk⟩
/-- these functions see the first seven places alone -/
def Bq (b b' : Nat → Int32) : Prop := ∀ k, k < 7 → b k = b' k
theorem ps_cong {o a r o' a' r' b b' : Nat → Int32} (hb : Bq b b') (ho : ∀ k, k < 24 → o k = o' k) (ha : ∀ k, k < 24 → a k = a' k) (hr : ∀ k, k < 5 → r k = r' k) (hw : rg (b 6) 0 23) : Bq (psF o a r b) (psF o' a' r' b') := by
  have hi : (b 6).toNatClampNeg < 24 := by have := hw.cl (by decide); have := hw.2; omega
  have w1 : wmt o r (b 6) (b 5) = wmt o' r' (b' 6) (b' 5) := by
    unfold wmt
    rw [hr 0 (by decide), ho _ hi, hb 6 (by decide), hb 5 (by decide)]
  have k1 : kndF o a r (b 6) (b 5) = kndF o' a' r' (b' 6) (b' 5) := by
    unfold kndF
    rw [w1, hr 2 (by decide), hr 3 (by decide), hr 4 (by decide), ha _ hi, hb 6 (by decide)]
  have g1 : wgt b = wgt b' := by
    unfold wgt
    rw [hb 1 (by decide), hb 2 (by decide), hb 3 (by decide)]
  have a1 : alv b = alv b' := by
    unfold alv
    rw [hb 1 (by decide), hb 2 (by decide)]
  have t1 : ∀ t, rtF r t = rtF r' t := fun t => by
    unfold rtF
    rw [hr 1 (by decide)]
  have u1 : usF o a r b = usF o' a' r' b' := by
    unfold usF
    rw [w1, k1, g1, t1]
  have d1 : drF o a r b = drF o' a' r' b' := by
    unfold drF
    rw [k1, ha _ hi, hb 6 (by decide)]
  intro k hk
  unfold psF
  rw [a1, u1, d1, k1, hb 6 (by decide), hb 1 (by decide), hb 2 (by decide), hb 4 (by decide), hb k hk]
