set_option maxRecDepth 100000
/-! PLAIN: calls that change: component and model answer alike -/
def Sim (T x out : Nat) (wpC : (Int32 → OS → Prop) → (Nat → OS → Prop) → Prop) (wpM : (Int32 → MS → Prop) → Prop) (code : Nat → Int32) : Prop :=
  (∃ (v : Int32) (μ' : MS), (∀ Q X, (∀ σ' : OS, RO T x out σ'.1 σ'.2.1 μ' → Q v σ') → wpC Q X) ∧ (∀ Q, Q v μ' → wpM Q) ∧ μ' 5 3 = 0) ∨
  (∃ (k : Nat) (b : Int32) (μ' : MS), code k ≠ 0 ∧ (∀ Q X, (∀ σ' : OS, RO T x out σ'.1 σ'.2.1 μ' → X k σ') → wpC Q X) ∧ (∀ Q, Q b μ' → wpM Q) ∧ μ' 5 3 = code k)
def cd01 : Nat → Int32 := fun k => if k = 1 then 1 else if k = 2 then 2 else 0
def cd02 : Nat → Int32 := fun k => if k = 0 then 1 else if k = 2 then 2 else 0
def cd03 : Nat → Int32 := fun k => if k = 0 then 1 else if k = 1 then 2 else 0
def cd2 : Nat → Int32 := fun k => if k = 2 then 1 else 0
def cd1 : Nat → Int32 := fun k => if k = 1 then 1 else 0
def cd0 : Nat → Int32 := fun k => if k = 0 then 1 else 0
section SM
variable {T T' x out n : Nat} {σ : OS} {μ : MS} {z' : Zz} {a b p : Int32}
theorem goesY {Q : Int32 → MS → Prop} (ha : ¬ a = 0) (hb : ¬ b = 0) (h : Q 1 (mU μ 5 3 0)) : wp_X6_goes a b μ Q := by
  refine x6_goes ?_
  rw [if_neg ha, if_neg hb, if_neg ha, if_neg hb]
  exact h
theorem goes1 {Q : Int32 → MS → Prop} (ha : a = 0) (h : Q 0 (mU μ 5 3 1)) : wp_X6_goes a b μ Q := by
  refine x6_goes ?_
  rw [if_pos ha, if_pos ha]
  exact h
theorem goes2 {Q : Int32 → MS → Prop} (ha : ¬ a = 0) (hb : b = 0) (h : Q 0 (mU μ 5 3 2)) : wp_X6_goes a b μ Q := by
  refine x6_goes ?_
  rw [if_neg ha, if_pos hb, if_neg ha, if_pos hb]
  exact h
theorem x1_needLot {hA : Nat} {y : MS} {L : List Int32} {Q : OS → Prop} {X : Nat → OS → Prop} (hF : oF σ x 0 0 (.ref hA)) (hH : σ.2.1 hA = some (y, L)) (hn : y 11 1 = nI n) (hN : σ.2.2.2.1 = 0) (hκ : 1 ≤ σ.2.2.1) (h1 : ¬ lotV n p = 0 → Q σ) (h0 : lotV n p = 0 → X 0 (oXs σ 0)) : wp_X1_needLot x p σ Q X := by
  unfold wp_X1_needLot
  refine ⟨hA, hF, (y, L), hH, x2_isLot (n := n) hn (fun σ4 e4 => ?_)⟩
  rw [oHc_same (w := (y, L)) hN hH] at e4
  subst e4
  exact ⟨h1, fun c => ⟨hκ, h0 c⟩⟩
theorem sim_mut {wpC : (Int32 → OS → Prop) → (Nat → OS → Prop) → Prop} {wpM : (Int32 → MS → Prop) → Prop} {code : Nat → Int32} {BODY : OS → (Int32 → OS → Prop) → Prop} {OPM : MS → (Int32 → MS → Prop) → Prop} {v : Int32} {n' : Nat} (hR : RO T x out σ.1 σ.2.1 μ) (hκ : σ.2.2.1 = 5000) (hT : T ≤ T') (hC : ∀ Q X, wp_X1_save x σ (fun σ9 => BODY σ9 Q) → wpC Q X) (hM : ∀ Q, wp_X6_record (mU μ 5 3 0) (fun σ8 => OPM σ8 Q) → wpM Q) (hB : ∀ (σ9 : OS) (hA : Nat) (y : MS) (L : List Int32) (n : Nat), oF σ9 x 0 0 (.ref hA) → oC σ9 x 0 → σ9.2.1 hA = some (y, L) → RH T y L (μ 0) n → litk (μ 0) n → 4900 ≤ σ9.2.2.1 → σ9.2.2.2.1 = 0 → ∀ Q : Int32 → OS → Prop, (∀ s' : HS, RH T' s'.1 s'.2.1 z' n' → litk z' n' → Q v (oHc σ9 hA s')) → BODY σ9 Q) (hO : ∀ σ8 : MS, σ8 0 = μ 0 → ∀ Q : Int32 → MS → Prop, Q v (mZ σ8 z') → OPM σ8 Q) : Sim T' x out wpC wpM code := by
  have hR1 := hR.thr 0
  obtain ⟨hA, dq, sb, l, sO, lst, e1, e2, e3, e4, e5, e6, e7, e8, e9, e10, e11, e12⟩ := id hR1
  obtain ⟨-, hl5, -⟩ := e3.split
  refine Or.inl ⟨v, mZ (recS (mU μ 5 3 0) lst.length) z', fun Q X hQ => hC Q X (x1_save hR1 e10 hl5 (by omega) (fun σ' r1 r2 r3 => ?_)), fun Q hQ => hM Q (x6_record e10 hl5 (hO _ (recS_0.trans (m_un (by decide))) Q hQ)), ?_⟩
  · obtain ⟨hA', y, L, n, ⟨hF, hC'⟩, hH, h1, h2, h3⟩ := r1.house
    rw [recS_0, m_un (by decide)] at h1 h2
    exact hB σ' hA' y L n hF hC' hH h1 h2 (by omega) r3 Q (fun s' g1 g2 => hQ _ (h3 s' z' n' T' hT g1 g2))
  · show recS (mU μ 5 3 0) lst.length 5 3 = 0
    rw [recS_5n (by decide)]
    exact mU_us
/-- the facts that a call begins with -/
theorem RO.begin (hR : RO T x out σ.1 σ.2.1 μ) : ∃ (hA : Nat) (y : MS) (L : List Int32) (n : Nat), oF σ x 0 0 (.ref hA) ∧ oC σ x 0 ∧ σ.2.1 hA = some (y, L) ∧ RH T y L (μ 0) n ∧ litk (μ 0) n ∧ n ≤ 12 ∧ μ 0 7 = nI n := by
  obtain ⟨hA, y, L, n, ⟨hF, hC⟩, hH, h1, h2, -⟩ := hR.house
  exact ⟨hA, y, L, n, hF, hC, hH, h1, h2, h1.zOK.2.1, h1.zOK.1⟩
theorem RH.nn {y y' : MS} {L L' : List Int32} {z : Zz} {n n' T T' : Nat} (h : RH T y L z n) (h' : RH T' y' L' z n') : n = n' := by
  have h1 := h.zOK
  have h2 := h'.zOK
  have h3 := h1.2.1
  have h4 := h2.2.1
  exact (nI_eq (by omega) (by omega)).1 (h1.1.symm.trans h2.1)
theorem RK.of {y : MS} {L : List Int32} {z : Zz} {n κ c : Nat} (h : RH T y L z n) (hk : 144 + c ≤ κ) : RK T c (y, L, κ) z n := by
  refine ⟨h, ?_⟩
  have h1 := lvs_le z n
  have h2 := h.zOK.2.1
  show 12 * lvs z n + c ≤ κ
  omega
theorem mU53 {v : Int32} {q : Nat} (h : q ≠ 5) : mU μ 5 3 v q = μ q := m_un h
def rgV (p a b : Int32) : Int32 := if p < a then 0 else if b < p then 0 else 1
theorem sim_add (hR : RO T x out σ.1 σ.2.1 μ) (hκ : σ.2.2.1 = 5000) : Sim T x out (wp_X1_add x p σ) (wp_X6_add p μ) cd01 := by
  obtain ⟨hA, y, L, n, hF, hC, hH, h1, h2, h12, h7⟩ := hR.begin
  by_cases c1 : rgV p 100 900 = 0
  · refine Or.inr ⟨1, 0, mU μ 5 3 1, by decide, fun Q X hX => ?_, fun Q hQ => ?_, mU_us⟩
    · unfold wp_X1_add
      exact x1_in ⟨fun d => absurd c1 d, fun _ => ⟨by omega, hX (oXs σ 0) (hR.thr 1)⟩⟩
    · unfold wp_X6_add
      refine x6_in ⟨zv7, jnI ⟨fun _ => goes1 c1 ⟨fun d => absurd rfl d, fun _ => hQ⟩, fun _ => goes1 c1 ⟨fun d => absurd rfl d, fun _ => hQ⟩⟩⟩
  by_cases c2 : n = 12
  · have c3 : (12 : Int32) ≤ nI n := by rw [c2]; decide
    refine Or.inr ⟨2, 0, mU μ 5 3 2, by decide, fun Q X hX => ?_, fun Q hQ => ?_, mU_us⟩
    · unfold wp_X1_add
      refine x1_in ⟨fun _ => ⟨hA, hF, (y, L), hH, jnI ⟨fun _ => ⟨fun d => absurd rfl d, fun _ => ⟨by omega, hX (oXs σ 0) (hR.thr 2)⟩⟩, fun d => ?_⟩⟩, fun d => absurd d c1⟩
      exact absurd (by show (12 : Int32) ≤ y 11 1; rw [h1.lots]; exact c3) d
    · unfold wp_X6_add
      rw [zc7, h7]
      exact x6_in ⟨zv7, jnI ⟨fun _ => goes2 c1 rfl ⟨fun d => absurd rfl d, fun _ => hQ⟩, fun d => absurd c3 d⟩⟩
  · have c3 : ¬ (12 : Int32) ≤ nI n := nI_ge (a := n) (b := 12) (by omega) (by decide)
    refine sim_mut (n' := n + 1) (z' := zAdd (μ 0) n p) (v := nI n) (BODY := fun σ9 Q => (∃ r10 : Nat, oF σ9 x 0 0 (.ref r10) ∧ (∃ w11 : MS × List Int32, σ9.2.1 r10 = some w11 ∧ wp_X2_add p (w11.1, w11.2, σ9.2.2.1) (fun v14 s12 => ∀ σ13 : OS, σ13 = oHc σ9 r10 s12 → (Q v14 σ13))))) (OPM := fun σ8 Q => (wp_X6_adds p σ8 (fun σ9 => (vp_in 7 (mLen 0) ∧ (Q ((σ9 0 (7 : Int32).toNatClampNeg) - 1) σ9))))) hR hκ (Nat.le_refl _) (fun Q X h => ?_) (fun Q h => ?_) (fun σ9 hA y L n9 f1 _ f2 f3 f4 f5 f6 Q hQ => ?_) (fun σ8 e8 Q hQ => ?_)
    · unfold wp_X1_add
      refine x1_in ⟨fun _ => ⟨hA, hF, (y, L), hH, jnI ⟨fun d => ?_, fun d => ⟨fun _ => ⟨hC, h⟩, fun d => absurd d (by decide)⟩⟩⟩, fun d => absurd d c1⟩
      exact absurd (by have d' : (12 : Int32) ≤ y 11 1 := d; rw [h1.lots] at d'; exact d') c3
    · unfold wp_X6_add
      rw [zc7, h7]
      exact x6_in ⟨zv7, jnI ⟨fun d => absurd d c3, fun _ => goesY c1 (by decide) ⟨fun _ => h, fun d => absurd d (by decide)⟩⟩⟩
    · obtain rfl := h1.nn f3
      exact ⟨hA, f1, (y, L), f2, x2_add (c := 0) (RK.of f3 (by omega)) f4 (by omega) (fun s' g1 g2 σ13 e13 => by rw [e13]; exact hQ s' g1.1 g2)⟩
    · refine x6_adds (n := n) (by rw [e8]; exact h7) (by omega) ?_
      rw [zc7, mZ_0, e8]
      have e9 : zAdd (μ 0) n p 7 = nI (n + 1) := by
        unfold zAdd
        rw [zLot_sc (by decide), pk_us, h7, nI_succ]
      refine ⟨zv7, ?_⟩
      rw [e9, nI_pred]
      exact hQ
end SM
