/-! DOUBLES: magnitudes in units of the least number; what is far smaller adds nothing beyond the bound; no NaN -/
abbrev fF : Jvm.FP.Core.Fmt := Jvm.FP.Core.b64
theorem fF_tails : fF.tails = 4503599627370496 := by decide
theorem fF_exps : fF.exps = 2048 := by decide
theorem fF_qmin : fF.qmin = -1074 := by decide
theorem fF_qmax : fF.qmax = 971 := by decide
theorem fF_p : (2 : Nat) ^ fF.p = 9007199254740992 := by decide
abbrev fV (x : UInt64) : Jvm.FP.Core.Datum := Jvm.FP.Core.decode fF x.toNat
/-- x is a number of at most M units -/
def fu (M : Nat) (x : UInt64) : Prop := ∃ (s : Bool) (c : Nat) (q : Int), fV x = .fin s c q ∧ -1074 ≤ q ∧ c * 2 ^ (q + 1074).toNat ≤ M
def fb (K : Nat) (x : UInt64) : Prop := fu (4503599627370496 * 2 ^ (K - 1)) x
theorem fb_n {x : UInt64} (h : x.toNat % 2 ^ 63 ≤ 9218868437227405312) : vf_n64 x := by
  unfold vf_n64
  rw [UInt64.le_iff_toNat_le, UInt64.toNat_and]
  have : (0x7fffffffffffffff : UInt64).toNat = 2 ^ 63 - 1 := by decide
  rw [this, Nat.and_two_pow_sub_one_eq_mod]
  exact h
/-- the bits of what 'settle' gives -/
theorem f_asm (s : Bool) {E T : Nat} (hE : E < 2048) (hT : T < 4503599627370496) : Jvm.FP.Core.assemble fF s E T < 2 ^ 64 ∧ Jvm.FP.Core.assemble fF s E T % 2 ^ 63 = E * 4503599627370496 + T := by
  unfold Jvm.FP.Core.assemble
  rw [fF_exps, fF_tails]
  cases s
  · simp only [Bool.toNat_false]
    constructor <;> omega
  · simp only [Bool.toNat_true]
    constructor <;> omega
theorem f_enc (s : Bool) (c : Nat) (q : Int) : Jvm.FP.Core.encode fF (.fin s c q) = if c < 4503599627370496 then Jvm.FP.Core.assemble fF s 0 c else Jvm.FP.Core.assemble fF s ((q - -1074).toNat + 1) (c - 4503599627370496) := by
  show (if c < fF.tails then Jvm.FP.Core.assemble fF s 0 c else Jvm.FP.Core.assemble fF s ((q - fF.qmin).toNat + 1) (c - fF.tails)) = _
  rw [fF_tails, fF_qmin]
theorem f_settle (s : Bool) (c : Nat) (q : Int) (hq : -1074 ≤ q) : Jvm.FP.Core.encode fF (Jvm.FP.Core.settle fF s c q) < 2 ^ 64 ∧ Jvm.FP.Core.encode fF (Jvm.FP.Core.settle fF s c q) % 2 ^ 63 ≤ 9218868437227405312 := by
  have hinf : Jvm.FP.Core.encode fF (.inf s) < 2 ^ 64 ∧ Jvm.FP.Core.encode fF (.inf s) % 2 ^ 63 ≤ 9218868437227405312 := by
    have := f_asm s (E := 2047) (T := 0) (by decide) (by decide)
    exact ⟨this.1, Nat.le_of_eq (this.2.trans (by decide))⟩
  have hfin : ∀ (c : Nat) (q : Int), c < 9007199254740992 → -1074 ≤ q → q ≤ 971 → Jvm.FP.Core.encode fF (.fin s c q) < 2 ^ 64 ∧ Jvm.FP.Core.encode fF (.fin s c q) % 2 ^ 63 ≤ 9218868437227405312 := by
    intro c q h1 h2 h3
    rw [f_enc]
    split
    · rename_i h
      have := f_asm s (E := 0) (T := c) (by decide) h
      omega
    · rename_i h
      have := f_asm s (E := (q - -1074).toNat + 1) (T := c - 4503599627370496) (by omega) (by omega)
      omega
  unfold Jvm.FP.Core.settle Jvm.FP.Core.bound
  rw [fF_p, fF_qmax, fF_tails]
  split
  · split
    · exact hfin c q (by assumption) hq (by assumption)
    · exact hinf
  · split
    · exact hfin _ _ (by decide) (by omega) (by assumption)
    · exact hinf
theorem f_rr (s : Bool) (A B : Nat) (e : Int) : Jvm.FP.Core.encode fF (Jvm.FP.Core.roundRatio fF s A B e) < 2 ^ 64 ∧ Jvm.FP.Core.encode fF (Jvm.FP.Core.roundRatio fF s A B e) % 2 ^ 63 ≤ 9218868437227405312 := by
  unfold Jvm.FP.Core.roundRatio
  split
  · have := f_asm s (E := 0) (T := 0) (by decide) (by decide)
    rw [f_enc, if_pos (by decide)]
    omega
  · refine f_settle s _ _ ?_
    unfold Jvm.FP.Core.quantum
    rw [fF_qmin]
    exact Int.le_max_left _ _
theorem f_nr (s : Bool) (A B : Nat) (e : Int) : vf_n64 (UInt64.ofNat (Jvm.FP.Core.encode fF (Jvm.FP.Core.roundRatio fF s A B e))) := by
  obtain ⟨h1, h2⟩ := f_rr s A B e
  refine fb_n ?_
  rw [UInt64.toNat_ofNat_of_lt' h1]
  exact h2
/-- the number out of small bits -/
theorem f_dec {n K : Nat} (h : n % 2 ^ 63 ≤ K * 4503599627370496) (h1 : 1 ≤ K) (hK : K ≤ 2046) : ∃ (s : Bool) (c : Nat) (q : Int), Jvm.FP.Core.decode fF n = .fin s c q ∧ -1074 ≤ q ∧ c * 2 ^ (q + 1074).toNat ≤ 4503599627370496 * 2 ^ (K - 1) ∧ (n % 2 ^ 63 ≠ 0 → c ≠ 0) := by
  unfold Jvm.FP.Core.decode Jvm.FP.Core.fieldE Jvm.FP.Core.fieldT
  rw [fF_tails, fF_exps, fF_qmin]
  have hm : n % 2 ^ 63 = n / 4503599627370496 % 2048 * 4503599627370496 + n % 4503599627370496 := by omega
  generalize hE : n / 4503599627370496 % 2048 = E at *
  generalize hT : n % 4503599627370496 = T at *
  have hT' : T < 4503599627370496 := by omega
  have hE' : E ≤ K := by omega
  rw [if_neg (by omega)]
  split
  · refine ⟨_, _, _, rfl, by omega, ?_, by omega⟩
    have : (-1074 + 1074 : Int).toNat = 0 := by decide
    rw [this]
    have : 1 ≤ 2 ^ (K - 1) := Nat.one_le_two_pow
    omega
  · rename_i hE0
    refine ⟨_, _, _, rfl, by omega, ?_, by omega⟩
    have e1 : (-1074 + ((E : Int) - 1) + 1074).toNat = E - 1 := by omega
    rw [e1]
    rcases Nat.lt_or_ge E K with h2 | h2
    · have h3 : 2 * 2 ^ (E - 1) ≤ 2 ^ (K - 1) := by
        rw [Nat.mul_comm, ← Nat.pow_succ]
        exact Nat.pow_le_pow_right (by decide) (by omega)
      have h4 : (4503599627370496 + T) * 2 ^ (E - 1) ≤ 9007199254740992 * 2 ^ (E - 1) := Nat.mul_le_mul_right _ (by omega)
      generalize 2 ^ (E - 1) = a at *
      generalize 2 ^ (K - 1) = b at *
      omega
    · have : E = K := by omega
      subst this
      have : T = 0 := by omega
      subst this
      exact Nat.le_refl _
theorem f_near {A B Z : Nat} (hB : 0 < B) (h : 2 * A < (2 * Z + 1) * B) : Jvm.FP.Core.nearest A B ≤ Z := by
  have h1 := Nat.div_add_mod A B
  have h2 := Nat.mod_lt A hB
  unfold Jvm.FP.Core.nearest
  generalize A / B = d at *
  generalize A % B = w at *
  have h3 : d ≤ Z := by
    rcases Nat.lt_or_ge Z d with h4 | h4
    · have := Nat.mul_le_mul_left B h4
      rw [Nat.mul_succ] at this
      have e1 : (2 * Z + 1) * B = 2 * (B * Z) + B := by rw [Nat.add_mul, Nat.one_mul, Nat.mul_assoc, Nat.mul_comm Z B]
      omega
    · exact h4
  rcases Nat.lt_or_ge d Z with h4 | h4
  · split
    · omega
    · split <;> omega
  · have : d = Z := by omega
    subst this
    have e1 : (2 * d + 1) * B = 2 * (B * d) + B := by rw [Nat.add_mul, Nat.one_mul, Nat.mul_assoc, Nat.mul_comm d B]
    rw [if_pos (by omega)]
    omega
theorem f_nearG {A B Z : Nat} (hB : 0 < B) (h : Z * B ≤ A) : Z ≤ Jvm.FP.Core.nearest A B := by
  have h3 : Z ≤ A / B := (Nat.le_div_iff_mul_le hB).mpr h
  unfold Jvm.FP.Core.nearest
  split
  · exact h3
  · split <;> omega
theorem f_lead (A : Nat) (hA : 0 < A) : Jvm.FP.Core.leading A 1 = (A.log2 : Int) := by
  have h1 : 2 ^ A.log2 ≤ A := Nat.log2_self_le (by omega)
  unfold Jvm.FP.Core.leading
  have e0 : Nat.log2 1 = 0 := by decide
  have e1 : ((A.log2 : Int) - ((0 : Nat) : Int)).toNat = A.log2 := by omega
  have e2 : (-((A.log2 : Int) - ((0 : Nat) : Int))).toNat = 0 := by omega
  simp only [e0, e1, e2]
  rw [if_pos (by simpa using h1)]
  omega
/-- rounding: A * 2^e of at most 2^52 * 2^(K-1) units and a bit gives bits of at most K -/
theorem f_round {s : Bool} {A : Nat} {e : Int} {K T : Nat} (he : -1074 ≤ e) (hV : A * 2 ^ (e + 1074).toNat ≤ 4503599627370496 * 2 ^ (K - 1) + T) (hT : 2 * T < 2 ^ (K - 1)) (h1 : 1 ≤ K) (hK : K ≤ 2046) :
    Jvm.FP.Core.encode fF (Jvm.FP.Core.roundRatio fF s A 1 e) < 2 ^ 64 ∧ Jvm.FP.Core.encode fF (Jvm.FP.Core.roundRatio fF s A 1 e) % 2 ^ 63 ≤ K * 4503599627370496 ∧ (0 < A → 0 ≤ e → 0 < Jvm.FP.Core.encode fF (Jvm.FP.Core.roundRatio fF s A 1 e) % 2 ^ 63) := by
  unfold Jvm.FP.Core.roundRatio
  split
  · rename_i hA
    have := f_asm s (E := 0) (T := 0) (by decide) (by decide)
    rw [f_enc, if_pos (by decide)]
    omega
  · rename_i hA
    have hA : 0 < A := by omega
    have hq : Jvm.FP.Core.quantum fF A 1 e = max (-1074) ((A.log2 : Int) + e - 52) := by
      unfold Jvm.FP.Core.quantum
      rw [f_lead A hA, fF_qmin]
      rfl
    have hlo : 2 ^ A.log2 ≤ A := Nat.log2_self_le (by omega)
    have hhi : A < 2 ^ (A.log2 + 1) := Nat.lt_log2_self
    unfold Jvm.FP.Core.roundAt
    rw [hq]
    generalize hqq : max (-1074) ((A.log2 : Int) + e - 52) = q
    have hq1 : -1074 ≤ q := by omega
    have hden : 0 < Jvm.FP.Core.unitsDen 1 e q := by
      unfold Jvm.FP.Core.unitsDen
      exact Nat.mul_pos (by decide) (Nat.two_pow_pos _)
    -- the value in units of 2^q
    have hrel : Jvm.FP.Core.unitsNum A e q * 2 ^ (q + 1074).toNat = A * 2 ^ (e + 1074).toNat * Jvm.FP.Core.unitsDen 1 e q := by
      unfold Jvm.FP.Core.unitsNum Jvm.FP.Core.unitsDen
      rw [Nat.one_mul, Nat.mul_assoc, ← Nat.pow_add, Nat.mul_assoc, ← Nat.pow_add]
      congr 2
      omega
    have hVhi : A * 2 ^ (e + 1074).toNat < 2 ^ (A.log2 + 1 + (e + 1074).toNat) := by
      rw [Nat.pow_add]
      exact Nat.mul_lt_mul_of_pos_right hhi (Nat.two_pow_pos _)
    have hVlo : 2 ^ (A.log2 + (e + 1074).toNat) ≤ A * 2 ^ (e + 1074).toNat := by
      rw [Nat.pow_add]
      exact Nat.mul_le_mul_right _ hlo
    generalize hv : A * 2 ^ (e + 1074).toNat = V at *
    generalize hnum : Jvm.FP.Core.unitsNum A e q = num at *
    generalize hde : Jvm.FP.Core.unitsDen 1 e q = den at *
    have hY : 0 < 2 ^ (q + 1074).toNat := Nat.two_pow_pos _
    have hN : Jvm.FP.Core.nearest num den ≤ 9007199254740992 := by
      refine f_near hden ?_
      have h3 : V < 9007199254740992 * 2 ^ (q + 1074).toNat := by
        refine Nat.lt_of_lt_of_le hVhi ?_
        rw [show (9007199254740992 : Nat) = 2 ^ 53 by decide, ← Nat.pow_add]
        exact Nat.pow_le_pow_right (by decide) (by omega)
      have h4 : num * 2 ^ (q + 1074).toNat < 9007199254740992 * den * 2 ^ (q + 1074).toNat := by
        rw [hrel]
        have := Nat.mul_lt_mul_of_pos_right h3 hden
        rw [Nat.mul_right_comm] at this
        exact this
      have h5 := Nat.lt_of_mul_lt_mul_right h4
      omega
    have hcase : q + 1074 ≤ (K : Int) - 2 ∨ (Jvm.FP.Core.nearest num den ≤ 4503599627370496 ∧ q + 1074 ≤ (K : Int) - 1) := by
      rcases Int.lt_or_le ((K : Int) - 2) (q + 1074) with h3 | h3
      · right
        have hM : 2 * T < 2 ^ (K - 1) := hT
        have h7 : q + 1074 ≤ (K : Int) - 1 := by
          rcases Int.lt_or_le ((K : Int) - 1) (q + 1074) with h8 | h8
          · exfalso
            have e5 : 2 ^ (52 + K) ≤ V := by
              refine Nat.le_trans ?_ hVlo
              exact Nat.pow_le_pow_right (by decide) (by omega)
            have e6 : (2 : Nat) ^ (52 + K) = 4503599627370496 * (2 * 2 ^ (K - 1)) := by
              rw [Nat.pow_add, show (2 : Nat) ^ 52 = 4503599627370496 by decide]
              congr 1
              rw [Nat.mul_comm, ← Nat.pow_succ]
              congr 1
              omega
            have : 0 < 2 ^ (K - 1) := Nat.two_pow_pos _
            generalize (2 : Nat) ^ (K - 1) = X at *
            omega
          · exact h8
        refine ⟨f_near hden ?_, h7⟩
        have e7 : (q + 1074).toNat = K - 1 := by omega
        rw [e7] at hrel
        have h8 : num * 2 ^ (K - 1) * 2 < (2 * 4503599627370496 + 1) * den * 2 ^ (K - 1) := by
          rw [hrel]
          have h9 : V * 2 < (2 * 4503599627370496 + 1) * 2 ^ (K - 1) := by omega
          have := Nat.mul_lt_mul_of_pos_right h9 hden
          rw [Nat.mul_right_comm, Nat.mul_right_comm _ (2 ^ (K - 1)) den] at this
          exact this
        rw [Nat.mul_right_comm] at h8
        have h9 := Nat.lt_of_mul_lt_mul_right h8
        omega
      · exact Or.inl h3
    have hG : 0 < A → 0 ≤ e → 4503599627370496 ≤ Jvm.FP.Core.nearest num den ∧ -52 ≤ q := by
      intro _ he0
      refine ⟨f_nearG hden ?_, by omega⟩
      have h3 : 4503599627370496 * 2 ^ (q + 1074).toNat ≤ V := by
        refine Nat.le_trans ?_ hVlo
        rw [show (4503599627370496 : Nat) = 2 ^ 52 by decide, ← Nat.pow_add]
        exact Nat.pow_le_pow_right (by decide) (by omega)
      have h4 : 4503599627370496 * den * 2 ^ (q + 1074).toNat ≤ num * 2 ^ (q + 1074).toNat := by
        rw [hrel]
        have := Nat.mul_le_mul_right den h3
        rw [Nat.mul_right_comm] at this
        exact this
      exact Nat.le_of_mul_le_mul_right h4 hY
    generalize Jvm.FP.Core.nearest num den = N at *
    have hq2 : q ≤ 971 := by omega
    unfold Jvm.FP.Core.settle Jvm.FP.Core.bound
    rw [fF_p, fF_qmax, fF_tails]
    split
    · rw [f_enc]
      split
      · rename_i h
        have := f_asm s (E := 0) (T := N) (by decide) h
        refine ⟨by omega, by omega, fun a b => ?_⟩
        have := hG a b
        omega
      · rename_i h
        have := f_asm s (E := (q - -1074).toNat + 1) (T := N - 4503599627370496) (by omega) (by omega)
        refine ⟨by omega, ?_, fun a b => by omega⟩
        rw [this.2]
        have e9 : ((q - -1074).toNat + 1) * 4503599627370496 = (q - -1074).toNat * 4503599627370496 + 4503599627370496 := by omega
        omega
    · have hq3 : q + 1 ≤ 971 := by omega
      rw [if_pos hq3]
      rw [f_enc, if_neg (by omega)]
      have := f_asm s (E := (q + 1 - -1074).toNat + 1) (T := 4503599627370496 - 4503599627370496) (by omega) (by omega)
      refine ⟨by omega, ?_, fun a b => by omega⟩
      rw [this.2]
      omega
/-- the exact sum, in units -/
theorem f_sum {s t : Bool} {c d : Nat} {q r : Int} (hq : -1074 ≤ q) (hr : -1074 ≤ r) : ∃ (sg : Bool) (n : Nat) (e : Int), Jvm.FP.Core.exactSum (.fin s c q) (.fin t d r) = .fin sg n e ∧ -1074 ≤ e ∧ n * 2 ^ (e + 1074).toNat ≤ c * 2 ^ (q + 1074).toNat + d * 2 ^ (r + 1074).toNat := by
  refine ⟨_, _, _, rfl, by omega, ?_⟩
  unfold Jvm.FP.Core.sumUnits Jvm.FP.Core.inUnits
  have h1 : c * 2 ^ (q + 1074).toNat = c * 2 ^ (q - min q r).toNat * 2 ^ (min q r + 1074).toNat := by
    rw [Nat.mul_assoc, ← Nat.pow_add]; congr 2; omega
  have h2 : d * 2 ^ (r + 1074).toNat = d * 2 ^ (r - min q r).toNat * 2 ^ (min q r + 1074).toNat := by
    rw [Nat.mul_assoc, ← Nat.pow_add]; congr 2; omega
  rw [h1, h2, ← Nat.add_mul]
  refine Nat.mul_le_mul_right _ ?_
  generalize c * 2 ^ (q - min q r).toNat = a
  generalize d * 2 ^ (r - min q r).toNat = b
  unfold Jvm.FP.Core.signed
  split <;> split <;> omega
theorem f_out {s : Bool} {A : Nat} {e : Int} {K T : Nat} {x : UInt64} (hx : x = UInt64.ofNat (Jvm.FP.Core.encode fF (Jvm.FP.Core.roundRatio fF s A 1 e))) (he : -1074 ≤ e) (hV : A * 2 ^ (e + 1074).toNat ≤ 4503599627370496 * 2 ^ (K - 1) + T) (hT : 2 * T < 2 ^ (K - 1)) (h1 : 1 ≤ K) (hK : K ≤ 2046) : fb K x ∧ vf_n64 x := by
  obtain ⟨g1, g2, g3⟩ := f_round (s := s) he hV hT h1 hK
  have hn : x.toNat = Jvm.FP.Core.encode fF (Jvm.FP.Core.roundRatio fF s A 1 e) := by rw [hx]; exact UInt64.toNat_ofNat_of_lt' g1
  refine ⟨?_, fb_n (by rw [hn]; omega)⟩
  obtain ⟨s', c, q, k1, k2, k3, -⟩ := f_dec (n := x.toNat) (K := K) (by rw [hn]; exact g2) h1 hK
  exact ⟨s', c, q, k1, k2, k3⟩
theorem fb_add {a b : UInt64} {K J : Nat} (ha : fb K a) (hb : fb J b) (h1 : 1 ≤ J) (h : J + 54 ≤ K) (hK : K ≤ 2000) : fb K (FP.dadd a b) ∧ vf_n64 (FP.dadd a b) := by
  obtain ⟨s, c, q, e1, e2, e3⟩ := ha
  obtain ⟨t, d, r, g1, g2, g3⟩ := hb
  obtain ⟨sg, n, e, k1, k2, k3⟩ := f_sum (s := s) (t := t) (c := c) (d := d) e2 g2
  refine f_out (s := sg) (A := n) (e := e) (K := K) (T := 4503599627370496 * 2 ^ (J - 1)) ?_ k2 (by omega) ?_ (by omega) (by omega)
  · show UInt64.ofNat (Jvm.FP.Core.encode fF (Jvm.FP.Core.round fF (Jvm.FP.Core.exactSum (fV a) (fV b)))) = _
    rw [e1, g1, k1]
    rfl
  · have : 2 ^ 54 * 2 ^ (J - 1) ≤ 2 ^ (K - 1) := by
      rw [← Nat.pow_add]
      exact Nat.pow_le_pow_right (by decide) (by omega)
    have : 0 < 2 ^ (J - 1) := Nat.two_pow_pos _
    generalize (2 : Nat) ^ (J - 1) = Y at *
    generalize (2 : Nat) ^ (K - 1) = X at *
    omega
theorem fb_dsub {a b : UInt64} {K : Nat} (ha : fb K a) (hb : fb K b) (h1 : 1 ≤ K) (hK : K ≤ 2000) : fb (K + 1) (FP.dsub a b) ∧ vf_n64 (FP.dsub a b) := by
  obtain ⟨s, c, q, e1, e2, e3⟩ := ha
  obtain ⟨t, d, r, g1, g2, g3⟩ := hb
  obtain ⟨sg, n, e, k1, k2, k3⟩ := f_sum (s := s) (t := !t) (c := c) (d := d) e2 g2
  refine f_out (s := sg) (A := n) (e := e) (K := K + 1) (T := 0) ?_ k2 ?_ ?_ (by omega) (by omega)
  · show UInt64.ofNat (Jvm.FP.Core.encode fF (Jvm.FP.Core.round fF (Jvm.FP.Core.exactSum (fV a) (Jvm.FP.Core.negate (fV b))))) = _
    rw [e1, g1]
    show UInt64.ofNat (Jvm.FP.Core.encode fF (Jvm.FP.Core.round fF (Jvm.FP.Core.exactSum (.fin s c q) (.fin (!t) d r)))) = _
    rw [k1]
    rfl
  · have e5 : (2 : Nat) ^ (K + 1 - 1) = 2 * 2 ^ (K - 1) := by
      rw [Nat.mul_comm, ← Nat.pow_succ]
      congr 1
      omega
    rw [e5]
    generalize (2 : Nat) ^ (K - 1) = X at *
    omega
  · have : 0 < 2 ^ (K + 1 - 1) := Nat.two_pow_pos _
    omega
theorem f_i2d (v : Int32) : ∃ (s : Bool) (c : Nat) (q : Int), fV (FP.i2d v) = .fin s c q ∧ (¬ v = 0 → c ≠ 0) := by
  have hA : v.toInt.natAbs ≤ 2 ^ 31 := by
    have h1 := Int32.toInt_lt v
    have h2 := Int32.le_toInt v
    omega
  have hV : v.toInt.natAbs * 2 ^ ((0 : Int) + 1074).toNat ≤ 4503599627370496 * 2 ^ (1100 - 1) + 0 := by
    have e1 : ((0 : Int) + 1074).toNat = 1074 := by decide
    rw [e1]
    have h3 : v.toInt.natAbs * 2 ^ 1074 ≤ 2 ^ 31 * 2 ^ 1074 := Nat.mul_le_mul_right _ hA
    have h4 : (2 : Nat) ^ 31 * 2 ^ 1074 ≤ 4503599627370496 * 2 ^ (1100 - 1) + 0 := by decide +kernel
    exact Nat.le_trans h3 h4
  obtain ⟨g1, g2, g3⟩ := f_round (s := decide (v.toInt < 0)) (A := v.toInt.natAbs) (e := 0) (K := 1100) (T := 0) (by decide) hV (by decide +kernel) (by decide) (by decide)
  have hn : (FP.i2d v).toNat = Jvm.FP.Core.encode fF (Jvm.FP.Core.roundRatio fF (decide (v.toInt < 0)) v.toInt.natAbs 1 0) := UInt64.toNat_ofNat_of_lt' g1
  obtain ⟨s', c, q, k1, k2, k3, k4⟩ := f_dec (n := (FP.i2d v).toNat) (K := 1100) (by rw [hn]; exact g2) (by decide) (by decide)
  refine ⟨s', c, q, k1, fun h => k4 ?_⟩
  have h0 : v.toInt ≠ 0 := fun e => h (Int32.toInt_inj.mp (by rw [e]; rfl))
  have := g3 (by omega) (by decide)
  rw [hn]
  omega
theorem fb_ddiv {a : UInt64} {v : Int32} {K : Nat} (ha : fb K a) (hv : ¬ v = 0) : vf_n64 (FP.ddiv a (FP.i2d v)) := by
  obtain ⟨s, c, q, e1, -, -⟩ := ha
  obtain ⟨t, d, r, g1, g2⟩ := f_i2d v
  show vf_n64 (UInt64.ofNat (Jvm.FP.Core.encode fF (Jvm.FP.Core.quotient fF (fV a) (fV (FP.i2d v)))))
  rw [e1, g1]
  show vf_n64 (UInt64.ofNat (Jvm.FP.Core.encode fF (if d = 0 then _ else Jvm.FP.Core.roundRatio fF (s != t) c d (q - r))))
  rw [if_neg (g2 hv)]
  exact f_nr _ _ _ _
theorem fb_dmul (v : Int32) {b : UInt64} {t : Bool} {d : Nat} {r : Int} (hb : fV b = .fin t d r) : vf_n64 (FP.dmul (FP.i2d v) b) := by
  obtain ⟨s, c, q, g1, -⟩ := f_i2d v
  show vf_n64 (UInt64.ofNat (Jvm.FP.Core.encode fF (Jvm.FP.Core.round fF (Jvm.FP.Core.exactProduct (fV (FP.i2d v)) (fV b)))))
  rw [g1, hb]
  exact f_nr _ _ _ _
theorem f_q {x : UInt64} {s : Bool} {c : Nat} {q : Int} (h : fV x = .fin s c q) : -1074 ≤ q := by
  unfold fV Jvm.FP.Core.decode at h
  rw [fF_qmin] at h
  split at h
  · split at h <;> cases h
  · split at h
    · cases h; omega
    · cases h; omega
theorem f_cmpI (a b : Int) : compare a b = if a < b then .lt else if a = b then .eq else .gt := rfl
theorem fV_cK : fV cK = .fin false 8796093022208000 (-43) := by decide +kernel
theorem fV_cM1 : fV cM1 = .fin true 4503599627370496 (-52) := by decide +kernel
theorem fV_c0 : fV FP.dconst0 = .fin false 0 (-1074) := by decide +kernel
theorem f_scale {c d : Nat} {q r : Int} (hq : -1074 ≤ q) (hr : -1074 ≤ r) (h : c * 2 ^ (q - min q r).toNat ≤ d * 2 ^ (r - min q r).toNat) : c * 2 ^ (q + 1074).toNat ≤ d * 2 ^ (r + 1074).toNat := by
  have h1 : c * 2 ^ (q + 1074).toNat = c * 2 ^ (q - min q r).toNat * 2 ^ (min q r + 1074).toNat := by
    rw [Nat.mul_assoc, ← Nat.pow_add]; congr 2; omega
  have h2 : d * 2 ^ (r + 1074).toNat = d * 2 ^ (r - min q r).toNat * 2 ^ (min q r + 1074).toNat := by
    rw [Nat.mul_assoc, ← Nat.pow_add]; congr 2; omega
  rw [h1, h2]
  exact Nat.mul_le_mul_right _ h
theorem fb_cmp {lo x : UInt64} (hlo : lo = cM1 ∨ lo = FP.dconst0) (h1 : FP.dcmp x lo = some .gt ∨ FP.dcmp x lo = some .eq) (h2 : FP.dcmp x cK = some .lt ∨ FP.dcmp x cK = some .eq) : fb 1034 x := by
  have h1 : Jvm.FP.Core.order (fV x) (fV lo) = some .gt ∨ Jvm.FP.Core.order (fV x) (fV lo) = some .eq := h1
  have h2 : Jvm.FP.Core.order (fV x) (fV cK) = some .lt ∨ Jvm.FP.Core.order (fV x) (fV cK) = some .eq := h2
  obtain ⟨t, d, r, hd, hr, hdd⟩ : ∃ (t : Bool) (d : Nat) (r : Int), fV lo = .fin t d r ∧ -1074 ≤ r ∧ d * 2 ^ (r + 1074).toNat ≤ 4503599627370496 * 2 ^ (1034 - 1) := by
    rcases hlo with rfl | rfl
    · exact ⟨_, _, _, fV_cM1, by decide, by decide +kernel⟩
    · exact ⟨_, _, _, fV_c0, by decide, by decide +kernel⟩
  rw [hd] at h1
  rw [fV_cK] at h2
  rcases hx : fV x with _ | s | ⟨s, c, q⟩
  · rw [hx] at h1
    rcases h1 with h1 | h1 <;> cases h1
  · rw [hx] at h1 h2
    cases s
    · exfalso; revert h2; decide
    · exfalso; revert h1
      show (some (compare (-1 : Int) 0) = _ ∨ some (compare (-1 : Int) 0) = _) → False
      decide
  · have hq := f_q hx
    refine ⟨s, c, q, hx, hq, ?_⟩
    rw [hx] at h1 h2
    simp only [Jvm.FP.Core.order, Jvm.FP.Core.inUnits, Jvm.FP.Core.signed, f_cmpI] at h1 h2
    cases s
    · have h3 : c * 2 ^ (q - min q (-43)).toNat ≤ 8796093022208000 * 2 ^ (-43 - min q (-43)).toNat := by
        simp only [Bool.false_eq_true, if_false] at h2
        generalize c * 2 ^ (q - min q (-43)).toNat = a at *
        generalize 8796093022208000 * 2 ^ (-43 - min q (-43)).toNat = b at *
        rcases h2 with h2 | h2
        · split at h2
          · omega
          · split at h2 <;> cases h2
        · split at h2
          · cases h2
          · split at h2
            · omega
            · cases h2
      have h4 := f_scale hq (by decide) h3
      exact Nat.le_trans h4 (by decide +kernel)
    · have h3 : c * 2 ^ (q - min q r).toNat ≤ d * 2 ^ (r - min q r).toNat := by
        simp only [if_true] at h1
        generalize c * 2 ^ (q - min q r).toNat = a at *
        generalize d * 2 ^ (r - min q r).toNat = b at *
        have h5 : ¬ (-(a : Int)) < (if t = true then -(b : Int) else (b : Int)) := by
          intro h6
          rw [if_pos h6] at h1
          rcases h1 with h1 | h1 <;> cases h1
        split at h5 <;> omega
      exact Nat.le_trans (f_scale hq hr h3) hdd
theorem f_self (x : UInt64) : FP.dcmp x x = none ∨ FP.dcmp x x = some .eq := by
  show Jvm.FP.Core.order (fV x) (fV x) = none ∨ Jvm.FP.Core.order (fV x) (fV x) = some .eq
  rcases fV x with _ | s | ⟨s, c, q⟩
  · exact Or.inl rfl
  · right
    simp only [Jvm.FP.Core.order, f_cmpI, Int.lt_irrefl, if_false, if_true]
  · right
    simp only [Jvm.FP.Core.order, f_cmpI, Int.lt_irrefl, if_false, if_true]
/-- two numbers compare -/
theorem f_some {K J : Nat} {x y : UInt64} (hx : fb K x) (hy : fb J y) : ∃ o, FP.dcmp x y = some o := by
  obtain ⟨s, c, q, h1, -, -⟩ := hx
  obtain ⟨t, d, r, h2, -, -⟩ := hy
  show ∃ o, Jvm.FP.Core.order (fV x) (fV y) = some o
  rw [h1, h2]
  exact ⟨_, rfl⟩
theorem fb_0 {K : Nat} : fb K FP.dconst0 := ⟨false, 0, -1074, fV_c0, by decide, by simp⟩
theorem fb_lim {x : UInt64} (h : inR cM1 cK x = true) : fb 1034 x := by
  have := of_decide_eq_true h
  exact fb_cmp (Or.inl rfl) this.1 this.2
theorem fb_by {x : UInt64} (h : inR FP.dconst0 cK x = true) : fb 1034 x := by
  have := of_decide_eq_true h
  exact fb_cmp (Or.inr rfl) this.1 this.2
theorem fb_time {a v : UInt64} (ha : fb 1200 a) (h : fb 1034 v) : fb 1200 (FP.dadd a v) ∧ vf_n64 (FP.dadd a v) := fb_add ha h (by decide) (by decide) (by decide)
theorem fb_wait {a b : UInt64} (ha : fb 1200 a) (hb : fb 1200 b) : fb 1201 (FP.dsub a b) ∧ vf_n64 (FP.dsub a b) := fb_dsub ha hb (by decide) (by decide)
theorem fb_sum {a b : UInt64} (ha : fb 1400 a) (hb : fb 1201 b) : fb 1400 (FP.dadd a b) ∧ vf_n64 (FP.dadd a b) := fb_add ha hb (by decide) (by decide) (by decide)
