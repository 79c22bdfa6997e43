section
theorem st_pm (x : Int32) : x + (-1) = x - 1 := (Int32.sub_eq_add_neg x 1).symm
theorem st_m1lt {P : Nat} (h : P < 2 ^ 31) : nI 0 - 1 < nI P := by
  rw [Int32.lt_iff_toInt_lt, nI_toInt h, show (nI 0 - 1).toInt = -1 from by decide]
  omega
/-- moveGap's second loop: from the gap up to the target -/
theorem st_mg45 {post : St2 → Prop} {f1 f2 f3 f4 f5 : Int32} {a2 a3 a4 a5 : Nat → Int32} {N P : Nat} (hN : N ≤ 64) (hP : P ≤ N)
    (H : ∀ a1, post (nI N, nI P, f2, f3, f4, f5, a1, a2, a3, a4, a5)) :
    ∀ (d i : Nat) (a1 : Nat → Int32), i ≤ 64 → P - i ≤ d → wX_moveGap_45 post (nI P) (nI (64 - N)) (nI N) f1 f2 f3 f4 f5 (d + 1) (nI i) a1 a2 a3 a4 a5 := by
  intro d
  induction d with
  | zero => exact fun i a1 hi hd => pk_le P i (fun _ => H a1) (fun z => absurd z (by omega))
  | succ d ih =>
    intro i a1 hi hd
    exact pk_le P i (fun _ => H a1) (fun z => ⟨pk_in (i + (64 - N)) 64 (by omega) (nI_add _ _), pk_in i 64 (by omega), nm_e (nm_r (nI_1 i) (ih (i + 1) _ (by omega) (by omega)))⟩)
/-- moveGap's first loop: from below the gap down to the target -/
theorem st_mg15 {post : St2 → Prop} {f2 f3 f4 f5 : Int32} {a2 a3 a4 a5 : Nat → Int32} {N P g : Nat} (hN : N ≤ 64) (hg : g ≤ N) (hP : P ≤ N)
    (H : ∀ a1, post (nI N, nI P, f2, f3, f4, f5, a1, a2, a3, a4, a5)) :
    ∀ (i : Nat) (a1 : Nat → Int32), i ≤ g → wX_moveGap_15 post (nI P) (nI (64 - N)) (nI N) (nI g) f2 f3 f4 f5 (i + 1) (nI i - 1) a1 a2 a3 a4 a5 := by
  intro i
  induction i with
  | zero => exact fun a1 _ => br_t (st_m1lt (by omega)) ⟨_, st_mg45 hN hP H (P - g) g a1 (by omega) (Nat.le_refl _)⟩
  | succ i ih =>
    intro a1 hi
    rw [nI_pred]
    exact pk_lt i P (fun _ => ⟨_, st_mg45 hN hP H (P - g) g a1 (by omega) (Nat.le_refl _)⟩) (fun z => ⟨pk_in i 64 (by omega), pk_in (i + (64 - N)) 64 (by omega) (nI_add _ _), nm_e (nm_r (st_pm (nI i)) (ih _ (by omega)))⟩)
theorem st_moveGap {post : St2 → Prop} {f2 f3 f4 f5 : Int32} {a1 a2 a3 a4 a5 : Nat → Int32} {N P g : Nat} (hN : N ≤ 64) (hg : g ≤ N) (hP : P ≤ N)
    (H : ∀ a1, post (nI N, nI P, f2, f3, f4, f5, a1, a2, a3, a4, a5)) : wpX_moveGap post (nI N, nI g, f2, f3, f4, f5, a1, a2, a3, a4, a5) (nI P) := by
  unfold wpX_moveGap
  exact nm_r (show (64 : Int32) - nI N = nI (64 - N) from pk_sub (a := 64) hN) (nm_e ⟨_, st_mg15 hN hg hP H g a1 (Nat.le_refl g)⟩)
theorem st_putLetter {post : St2 → Prop} {f2 f3 f4 f5 c : Int32} {a1 a2 a3 a4 a5 : Nat → Int32} {N P g : Nat} (hN : N < 64) (hg : g ≤ N) (hP : P ≤ N)
    (H : ∀ a1, post (nI (N + 1), nI (P + 1), f2, f3, f4, f5, a1, a2, a3, a4, a5)) : wpX_putLetter post (nI N, nI g, f2, f3, f4, f5, a1, a2, a3, a4, a5) (nI P) c := by
  unfold wpX_putLetter
  exact st_moveGap (by omega) hg hP (fun a => ⟨pk_in P 64 (by omega), nm_e (nm_r (nI_1 P) (nm_r (nI_1 N) (H _)))⟩)
end
section
/-- openRun under way: above k all stands one place higher -/
def st_sh (a : Nat → Int32) (c k : Nat) (b : Nat → Int32) : Prop := (∀ q, q ≤ k → b q = a q) ∧ (∀ q, k < q → q ≤ c → b q = a (q - 1))
theorem st_sh0 (a : Nat → Int32) (c : Nat) : st_sh a c c a := ⟨fun _ _ => rfl, fun _ h h' => absurd h (by omega)⟩
theorem st_sh_step {a b : Nat → Int32} {c k : Nat} (h : st_sh a c (k + 1) b) : st_sh a c k (upd b (k + 1) (b k)) := by
  refine ⟨fun q hq => ?_, fun q hq hc => ?_⟩
  · rw [pk_un (by omega)]
    exact h.1 q (by omega)
  · by_cases e : q = k + 1
    · rw [e, pk_us]
      exact h.1 k (by omega)
    · rw [pk_un e]
      exact h.2 q (by omega) hc
/-- closeRun under way: from r to k all stands one place lower -/
def st_cl (a : Nat → Int32) (r k : Nat) (b : Nat → Int32) : Prop := (∀ q, q < r → b q = a q) ∧ (∀ q, r ≤ q → q < k → b q = a (q + 1)) ∧ (∀ q, k ≤ q → b q = a q)
theorem st_cl0 (a : Nat → Int32) (r : Nat) : st_cl a r r a := ⟨fun _ _ => rfl, fun _ h h' => absurd h (by omega), fun _ _ => rfl⟩
theorem st_cl_step {a b : Nat → Int32} {r k : Nat} (hr : r ≤ k) (h : st_cl a r k b) : st_cl a r (k + 1) (upd b k (b (k + 1))) := by
  refine ⟨fun q hq => ?_, fun q hq hc => ?_, fun q hq => ?_⟩
  · rw [pk_un (by omega)]
    exact h.1 q hq
  · by_cases e : q = k
    · rw [e, pk_us]
      exact h.2.2 (k + 1) (by omega)
    · rw [pk_un e]
      exact h.2.1 q hq (by omega)
  · rw [pk_un (by omega)]
    exact h.2.2 q (by omega)
theorem st_or5 {post : St2 → Prop} {f0 f1 f3 f4 f5 : Int32} {a1 a2 a3 a4 a5 : Nat → Int32} {c r : Nat} (hc : c ≤ 67)
    (H : ∀ b2 b3, st_sh a2 c r b2 → st_sh a3 c r b3 → post (f0, f1, nI (c + 1), f3, f4, f5, a1, b2, b3, a4, a5)) :
    ∀ (d : Nat) (b2 b3 : Nat → Int32), r + d ≤ c → st_sh a2 c (r + d) b2 → st_sh a3 c (r + d) b3 → wX_openRun_5 post (nI r) f0 f1 (nI c) f3 f4 f5 (d + 1) (nI (r + d)) a1 b2 b3 a4 a5 := by
  intro d
  induction d with
  | zero => exact fun b2 b3 hd h2 h3 => pk_le r r (fun _ => nm_r (nI_1 c) (H b2 b3 h2 h3)) (fun z => absurd z (by omega))
  | succ d ih =>
    intro b2 b3 hd h2 h3
    have e0 : nI (r + (d + 1)) - 1 = nI (r + d) := nI_pred (r + d)
    have e1 : (nI (r + (d + 1)) - 1).toNatClampNeg = r + d := pk_cl (r + d) e0
    have e2 : (nI (r + (d + 1))).toNatClampNeg = r + d + 1 := pk_cl (r + d + 1)
    have t := ih (upd b2 (r + d + 1) (b2 (r + d))) (upd b3 (r + d + 1) (b3 (r + d))) (by omega) (st_sh_step h2) (st_sh_step h3)
    exact pk_le (r + (d + 1)) r (fun z => absurd z (by omega)) (fun _ => ⟨pk_in (r + d) 68 (by omega) e0, pk_in (r + d + 1) 68 (by omega), nm_r (e' := upd b2 (r + d + 1) (b2 (r + d))) (by rw [e1, e2]) ⟨pk_in (r + d) 68 (by omega) e0, pk_in (r + d + 1) 68 (by omega), nm_r (e' := upd b3 (r + d + 1) (b3 (r + d))) (by rw [e1, e2]) (nm_r (pk_m1 (r + d)) t)⟩⟩)
theorem st_openRun {post : St2 → Prop} {f0 f1 f3 f4 f5 : Int32} {a1 a2 a3 a4 a5 : Nat → Int32} {c r : Nat} (hc : c ≤ 67) (hr : r ≤ c)
    (H : ∀ b2 b3, st_sh a2 c r b2 → st_sh a3 c r b3 → post (f0, f1, nI (c + 1), f3, f4, f5, a1, b2, b3, a4, a5)) : wpX_openRun post (f0, f1, nI c, f3, f4, f5, a1, a2, a3, a4, a5) (nI r) := by
  have e : r + (c - r) = c := by omega
  have t := st_or5 (post := post) (f0 := f0) (f1 := f1) (f3 := f3) (f4 := f4) (f5 := f5) (a1 := a1) (a4 := a4) (a5 := a5) hc H (c - r) a2 a3 (by omega) (by rw [e]; exact st_sh0 a2 c) (by rw [e]; exact st_sh0 a3 c)
  rw [e] at t
  unfold wpX_openRun
  exact ⟨_, t⟩
theorem st_cr12 {post : St2 → Prop} {f0 f1 f3 f4 f5 : Int32} {a1 a2 a3 a4 a5 : Nat → Int32} {m r : Nat} (hm : m ≤ 67)
    (H : ∀ b2 b3, st_cl a2 r m b2 → st_cl a3 r m b3 → post (f0, f1, nI m, f3, f4, f5, a1, b2, b3, a4, a5)) :
    ∀ (d k : Nat) (b2 b3 : Nat → Int32), k + d = m → r ≤ k → st_cl a2 r k b2 → st_cl a3 r k b3 → wX_closeRun_12 post f0 f1 (nI m) f3 f4 f5 (d + 1) (nI k) a1 b2 b3 a4 a5 := by
  intro d
  induction d with
  | zero =>
    intro k b2 b3 hd hr h2 h3
    have e : k = m := by omega
    subst e
    exact pk_le k k (fun _ => H b2 b3 h2 h3) (fun z => absurd z (by omega))
  | succ d ih =>
    intro k b2 b3 hd hr h2 h3
    have e1 : (nI k + 1).toNatClampNeg = k + 1 := pk_cl (k + 1) (nI_1 k)
    have e2 : (nI k).toNatClampNeg = k := pk_cl k
    have t := ih (k + 1) (upd b2 k (b2 (k + 1))) (upd b3 k (b3 (k + 1))) (by omega) (by omega) (st_cl_step hr h2) (st_cl_step hr h3)
    exact pk_le m k (fun z => absurd z (by omega)) (fun _ => ⟨pk_in (k + 1) 68 (by omega) (nI_1 k), pk_in k 68 (by omega), nm_r (e' := upd b2 k (b2 (k + 1))) (by rw [e1, e2]) ⟨pk_in (k + 1) 68 (by omega) (nI_1 k), pk_in k 68 (by omega), nm_r (e' := upd b3 k (b3 (k + 1))) (by rw [e1, e2]) (nm_r (nI_1 k) t)⟩⟩)
theorem st_closeRun {post : St2 → Prop} {f0 f1 f3 f4 f5 : Int32} {a1 a2 a3 a4 a5 : Nat → Int32} {m r : Nat} (hm : m ≤ 67) (hr : r ≤ m)
    (H : ∀ b2 b3, st_cl a2 r m b2 → st_cl a3 r m b3 → post (f0, f1, nI m, f3, f4, f5, a1, b2, b3, a4, a5)) : wpX_closeRun post (f0, f1, nI (m + 1), f3, f4, f5, a1, a2, a3, a4, a5) (nI r) := by
  unfold wpX_closeRun
  exact nm_r (nI_pred m) ⟨_, st_cr12 hm H (m - r) r a2 a3 (by omega) (Nat.le_refl r) (st_cl0 a2 r) (st_cl0 a3 r)⟩
/-- runAt with no run -/
theorem st_run0 {post : Int32 → St2 → Prop} {f0 f1 f3 f4 f5 p : Int32} {a1 a2 a3 a4 a5 : Nat → Int32}
    (H : post 0 (f0, f1, nI 0, f3, f4, 0, a1, a2, a3, a4, a5)) : wpX_runAt post (f0, f1, nI 0, f3, f4, f5, a1, a2, a3, a4, a5) p := by
  unfold wpX_runAt
  exact ⟨1, pk_le 0 0 (fun _ => H) (fun z => absurd z (by omega))⟩
/-- runAt, the place in the first run -/
theorem st_runA {post : Int32 → St2 → Prop} {f0 f1 f3 f4 f5 : Int32} {a1 a2 a3 a4 a5 : Nat → Int32} {c P A : Nat} (hc : 0 < c) (hc' : c ≤ 67) (hA : A ≤ 64) (h2 : a2 0 = nI A) (hP : P < A)
    (H : post 0 (f0, f1, nI c, f3, f4, 0, a1, a2, a3, a4, a5)) : wpX_runAt post (f0, f1, nI c, f3, f4, f5, a1, a2, a3, a4, a5) (nI P) := by
  unfold wpX_runAt
  have e : (0 : Int32) + a2 (0 : Int32).toNatClampNeg = nI A := by
    rw [show (0 : Int32).toNatClampNeg = 0 from rfl, h2, Int32.zero_add]
  exact ⟨1, pk_le c 0 (fun z => absurd z (by omega)) (fun _ => ⟨pk_in 0 68 (by omega), pk_lt P A (fun _ => H) (fun z => absurd z (by omega)) rfl e⟩)⟩
/-- runAt, one run, the place behind it -/
theorem st_runB {post : Int32 → St2 → Prop} {f0 f1 f3 f4 f5 : Int32} {a1 a2 a3 a4 a5 : Nat → Int32} {P A : Nat} (hA : A ≤ 64) (h2 : a2 0 = nI A) (hP : A ≤ P) (hP' : P ≤ 64)
    (H : post (nI 1) (f0, f1, nI 1, f3, f4, nI A, a1, a2, a3, a4, a5)) : wpX_runAt post (f0, f1, nI 1, f3, f4, f5, a1, a2, a3, a4, a5) (nI P) := by
  unfold wpX_runAt
  have e : (0 : Int32) + a2 (0 : Int32).toNatClampNeg = nI A := by
    rw [show (0 : Int32).toNatClampNeg = 0 from rfl, h2, Int32.zero_add]
  refine ⟨2, pk_le 1 0 (fun z => absurd z (by omega)) (fun _ => ⟨pk_in 0 68 (by omega), pk_lt P A (fun z => absurd z (by omega)) (fun _ => ⟨pk_in 0 68 (by omega), nm_r e (nm_r (nI_1 0) (nm_r (nI_1 0) ?_))⟩) rfl e⟩)⟩
  exact pk_le 1 1 (fun _ => H) (fun z => absurd z (by omega))
/-- cutAt with no run -/
theorem st_cut0 {post : Int32 → St2 → Prop} {f0 f1 f3 f4 f5 p : Int32} {a1 a2 a3 a4 a5 : Nat → Int32}
    (H : post 0 (f0, f1, nI 0, f3, f4, 0, a1, a2, a3, a4, a5)) : wpX_cutAt post (f0, f1, nI 0, f3, f4, f5, a1, a2, a3, a4, a5) p := by
  unfold wpX_cutAt
  exact st_run0 (pk_le 0 0 (fun _ => H) (fun z => absurd z (by omega)))
/-- cutAt at the first place -/
theorem st_cutZ {post : Int32 → St2 → Prop} {f0 f1 f3 f4 f5 : Int32} {a1 a2 a3 a4 a5 : Nat → Int32} {c A : Nat} (hc : 0 < c) (hc' : c ≤ 66) (hA : A ≤ 64) (h2 : a2 0 = nI A) (hP : 0 < A)
    (H : post 0 (f0, f1, nI c, f3, f4, 0, a1, a2, a3, a4, a5)) : wpX_cutAt post (f0, f1, nI c, f3, f4, f5, a1, a2, a3, a4, a5) (nI 0) := by
  unfold wpX_cutAt
  exact st_runA hc (by omega) hA h2 hP (pk_le c 0 (fun z => absurd z (by omega)) (fun _ => pk_le 0 0 (fun _ => H) (fun z => absurd z (by omega))))
/-- cutAt within the first run -/
theorem st_cutA {post : Int32 → St2 → Prop} {f0 f1 f3 f4 f5 : Int32} {a1 a2 a3 a4 a5 : Nat → Int32} {c P A : Nat} (hc : 0 < c) (hc' : c ≤ 66) (hA : A ≤ 64) (h2 : a2 0 = nI A) (h0 : 0 < P) (hP : P < A)
    (H : ∀ b2 b3, b2 0 = nI P → b2 1 = nI (A - P) → (∀ q, 2 ≤ q → q ≤ c → b2 q = a2 (q - 1)) → b3 0 = a3 0 → (∀ q, 1 ≤ q → q ≤ c → b3 q = a3 (q - 1)) → post (nI 1) (f0, f1, nI (c + 1), f3, f4, 0, a1, b2, b3, a4, a5)) :
    wpX_cutAt post (f0, f1, nI c, f3, f4, f5, a1, a2, a3, a4, a5) (nI P) := by
  unfold wpX_cutAt
  refine st_runA hc (by omega) hA h2 hP (pk_le c 0 (fun z => absurd z (by omega)) (fun _ => pk_le P 0 (fun z => absurd z (by omega)) (fun _ => ?_)))
  refine st_openRun (r := 0) (by omega) (by omega) (fun b2 b3 k2 k3 => ?_)
  have e1 : b2 1 = nI A := (k2.2 1 (by omega) (by omega)).trans h2
  have z0 : (0 : Int32).toNatClampNeg = 0 := rfl
  have z1 : ((0 : Int32) + 1).toNatClampNeg = 1 := rfl
  refine ⟨pk_in 0 68 (by omega), nm_r (e' := upd b2 0 (nI P)) (by rw [Int32.sub_zero]; rfl) ⟨pk_in 1 68 (by omega), pk_in 0 68 (by omega), pk_in 1 68 (by omega), nm_r (e' := upd (upd b2 0 (nI P)) 1 (nI (A - P))) ?_ (nm_r (nI_1 0) (H _ _ ?_ ?_ ?_ ?_ ?_))⟩⟩
  · show upd (upd b2 0 (nI P)) 1 (upd b2 0 (nI P) 1 - upd b2 0 (nI P) 0) = _
    rw [pk_us, pk_un (by omega), e1, pk_sub (by omega)]
  · rw [pk_un (by omega), pk_us]
  · rw [pk_us]
  · intro q h h'
    rw [pk_un (by omega), pk_un (by omega)]
    exact k2.2 q (by omega) h'
  · exact k3.1 0 (by omega)
  · exact fun q h h' => k3.2 q (by omega) h'
/-- cutAt at the end of the one run -/
theorem st_cutB {post : Int32 → St2 → Prop} {f0 f1 f3 f4 f5 : Int32} {a1 a2 a3 a4 a5 : Nat → Int32} {P A : Nat} (hA : A ≤ 64) (h2 : a2 0 = nI A) (hP : A ≤ P) (hP' : P ≤ 64)
    (H : post (nI 1) (f0, f1, nI 1, f3, f4, nI A, a1, a2, a3, a4, a5)) : wpX_cutAt post (f0, f1, nI 1, f3, f4, f5, a1, a2, a3, a4, a5) (nI P) := by
  unfold wpX_cutAt
  exact st_runB hA h2 hP hP' (pk_le 1 1 (fun _ => H) (fun z => absurd z (by omega)))
/-- joinRuns with one run or none -/
theorem st_join1 {post : St2 → Prop} {f0 f1 f3 f4 f5 : Int32} {a1 a2 a3 a4 a5 : Nat → Int32} {c : Nat} (hc : c ≤ 1)
    (H : post (f0, f1, nI c, f3, f4, f5, a1, a2, a3, a4, a5)) : wpX_joinRuns post (f0, f1, nI c, f3, f4, f5, a1, a2, a3, a4, a5) := by
  unfold wpX_joinRuns
  refine nm_e ⟨1, br_t ?_ H⟩
  have : c = 0 ∨ c = 1 := by omega
  rcases this with rfl | rfl <;> decide
/-- joinRuns with two runs of one style -/
theorem st_join2 {post : St2 → Prop} {f0 f1 f3 f4 f5 : Int32} {a1 a2 a3 a4 a5 : Nat → Int32} (h3 : a3 1 = a3 0)
    (H : ∀ b2 b3, b2 0 = a2 0 + a2 1 → b3 0 = a3 0 → post (f0, f1, nI 1, f3, f4, f5, a1, b2, b3, a4, a5)) : wpX_joinRuns post (f0, f1, nI 2, f3, f4, f5, a1, a2, a3, a4, a5) := by
  unfold wpX_joinRuns
  refine nm_r (nI_pred 1) ⟨2, pk_le 1 0 (fun z => absurd z (by omega)) (fun _ => ⟨pk_in 1 68 (by omega), pk_in 0 68 (by omega) (nI_pred 0), br_t h3 ⟨pk_in 0 68 (by omega) (nI_pred 0), pk_in 1 68 (by omega), pk_in 0 68 (by omega) (nI_pred 0), nm_r (e' := upd a2 0 (a2 0 + a2 1)) rfl ?_⟩⟩)⟩
  refine st_closeRun (m := 1) (r := 1) (by omega) (by omega) (fun b2 b3 k2 k3 => nm_r (pk_m1 0) (pk_le 0 0 (fun _ => H b2 b3 ?_ ?_) (fun z => absurd z (by omega))))
  · rw [k2.1 0 (by omega), pk_us]
  · exact k3.1 0 (by omega)
end
section
/-- the runs: none and no letters, or one of N letters in style s -/
def st_R (c N : Nat) (s : Int32) (a2 a3 : Nat → Int32) : Prop := (c = 0 ∧ N = 0) ∨ (c = 1 ∧ a2 0 = nI N ∧ a3 0 = s)
theorem st_R1 {c N : Nat} {s : Int32} {a2 a3 : Nat → Int32} (h : st_R c N s a2 a3) (hN : 0 < N) : c = 1 ∧ a2 0 = nI N ∧ a3 0 = s := by
  rcases h with ⟨_, h⟩ | h
  · exact absurd h (by omega)
  · exact h
theorem st_putStyles {post : St2 → Prop} {f0 f1 f3 f4 f5 p s : Int32} {a1 a2 a3 a4 a5 : Nat → Int32} {K : Nat} (hK : K ≤ 64)
    (H : ∀ c b a2 a3, st_R c K s a2 a3 → post (f0, f1, nI c, f3, f4, b, a1, a2, a3, a4, a5)) : wpX_putStyles post (f0, f1, nI 0, f3, f4, f5, a1, a2, a3, a4, a5) p (nI K) s := by
  unfold wpX_putStyles
  refine pk_eq K 0 (fun z => H 0 f5 a2 a3 (Or.inl ⟨rfl, z⟩)) (fun z => st_cut0 ?_)
  refine st_openRun (c := 0) (r := 0) (by omega) (by omega) (fun b2 b3 _ _ => ?_)
  refine ⟨pk_in 0 68 (by omega), nm_r (e' := upd b2 0 (nI K)) rfl ⟨pk_in 0 68 (by omega), nm_r (e' := upd b3 0 s) rfl ?_⟩⟩
  exact st_join1 (c := 1) (by omega) (H 1 0 _ _ (Or.inr ⟨rfl, pk_us, pk_us⟩))
theorem st_ins3 {post : St2 → Prop} {f4 f5 ch s : Int32} {a2 a3 a4 a5 : Nat → Int32} {K : Nat} (hK : K ≤ 64)
    (H : ∀ (g c : Nat) b a1 a2 a3, g ≤ K → st_R c K s a2 a3 → post (nI K, nI g, nI c, nI 0, f4, b, a1, a2, a3, a4, a5)) :
    ∀ (d m g : Nat) (a1 : Nat → Int32), m + d = K → g ≤ m → wX_insert_3 post (nI 0) ch (nI K) s (d + 1) (nI m) (nI m) (nI g) (nI 0) (nI 0) f4 f5 a1 a2 a3 a4 a5 := by
  intro d
  induction d with
  | zero =>
    intro m g a1 hd hg
    have e : m = K := by omega
    subst e
    refine pk_le m m (fun _ => ?_) (fun z => absurd z (by omega))
    exact st_putStyles hK (fun c b b2 b3 hR => pk_le 0 0 (fun _ => H g c b a1 b2 b3 hg hR) (fun z => absurd z (by omega)))
  | succ d ih =>
    intro m g a1 hd hg
    refine pk_le K m (fun z => absurd z (by omega)) (fun _ => ?_)
    exact st_putLetter (by omega) hg (Nat.zero_le m) (fun a => nm_r (nI_1 m) (ih (m + 1) (0 + 1) a (by omega) (by omega)))
theorem st_insert {post : St2 → Prop} {f4 f5 ch s : Int32} {a1 a2 a3 a4 a5 : Nat → Int32} {K : Nat} (hK : K ≤ 64)
    (H : ∀ (g c : Nat) b a1 a2 a3, g ≤ K → st_R c K s a2 a3 → post (nI K, nI g, nI c, nI 0, f4, b, a1, a2, a3, a4, a5)) :
    wpX_insert post (nI 0, nI 0, nI 0, nI 0, f4, f5, a1, a2, a3, a4, a5) (nI 0) ch (nI K) s := by
  unfold wpX_insert
  exact ⟨_, st_ins3 hK H K 0 0 a1 (by omega) (by omega)⟩
def st_fits (p c k s : Int32) : Prop := p = 0 ∧ ¬ c < 0 ∧ ¬ 25 < c ∧ ¬ k < 0 ∧ ¬ 64 < k ∧ ¬ s < 0 ∧ ¬ 63 < s
theorem st_zero {p : Int32} (h : ¬ p < 0) (h' : ¬ 0 < p) : p = 0 := by
  rw [Int32.lt_iff_toInt_lt] at h h'
  exact Int32.toInt_inj.mp (by omega)
theorem st_badLetter {post : Int32 → Prop} {f0 f1 f2 f3 f4 f5 c : Int32} {a1 a2 a3 a4 a5 : Nat → Int32} (Hb : c < 0 ∨ 25 < c → post 1) (Hg : ¬ c < 0 → ¬ 25 < c → post 0) :
    wpX_badLetter post (f0, f1, f2, f3, f4, f5, a1, a2, a3, a4, a5) c := by
  unfold wpX_badLetter
  exact br_c (fun z => Hb (Or.inl z)) (fun z => br_c (fun y => Hg z (Int32.not_lt.mpr y)) (fun y => Hb (Or.inr (Int32.not_le.mp y))))
theorem st_put {post : Int32 → St2 → Prop} {f4 f5 p ch k s : Int32} {a1 a2 a3 a4 a5 : Nat → Int32}
    (H : ∀ (N g c : Nat) b a1 a2 a3 r, (st_fits p ch k s ∧ r = k ∧ k = nI N) ∨ (¬ st_fits p ch k s ∧ r = -1 ∧ N = 0) → N ≤ 64 → g ≤ N → st_R c N s a2 a3 → post r (nI N, nI g, nI c, nI 0, f4, b, a1, a2, a3, a4, a5)) :
    wpX_put post (nI 0, nI 0, nI 0, nI 0, f4, f5, a1, a2, a3, a4, a5) p ch k s := by
  have Hn : ¬ st_fits p ch k s → post (-1) (nI 0, nI 0, nI 0, nI 0, f4, f5, a1, a2, a3, a4, a5) := fun z => H 0 0 0 f5 a1 a2 a3 (-1) (Or.inr ⟨z, rfl, rfl⟩) (by omega) (by omega) (Or.inl ⟨rfl, rfl⟩)
  unfold wpX_put
  refine st_badLetter (fun z => br_f (by decide) (Hn (fun t => ?_))) (fun c0 c1 => br_t rfl ?_)
  · rcases z with z | z
    · exact t.2.1 z
    · exact t.2.2.1 z
  · refine br_c (fun z => Hn (fun t => ?_)) (fun p0 => br_c (fun z => Hn (fun t => ?_)) (fun p1 => ?_))
    · rw [t.1] at z
      exact absurd z (by decide)
    · rw [t.1] at z
      exact absurd z (by decide)
    · refine br_c (fun z => Hn (fun t => t.2.2.2.1 z)) (fun k0 => br_c (fun z => Hn (fun t => t.2.2.2.2.1 z)) (fun k1 => br_c (fun z => Hn (fun t => t.2.2.2.2.2.1 z)) (fun s0 => br_c (fun s1 => ?_) (fun z => Hn (fun t => t.2.2.2.2.2.2 (Int32.not_le.mp z))))))
      have hf : st_fits p ch k s := ⟨st_zero p0 p1, c0, c1, k0, k1, s0, Int32.not_lt.mpr s1⟩
      obtain ⟨K, hK, eK⟩ := nI_of2 (M := 64) (n := 64) (by decide) k0 (Int32.not_lt.mp k1)
      have ep := hf.1
      subst eK
      subst ep
      refine br_t (show nI 0 + nI K ≤ 64 from ?_) ?_
      · rw [nI_add, Nat.zero_add]
        exact nI_le (b := 64) hK (by omega)
      · exact st_insert hK (fun g c b b1 b2 b3 hg hR => H K g c b b1 b2 b3 (nI K) (Or.inl ⟨hf, rfl, rfl⟩) hK hg hR)
theorem st_styleAt {post : Int32 → St2 → Prop} {f1 f3 f4 f5 i s : Int32} {a1 a2 a3 a4 a5 : Nat → Int32} {N c : Nat} (hN : N ≤ 64) (hR : st_R c N s a2 a3)
    (H : ∀ b r, r = (if i < 0 then -4 else if nI N ≤ i then -4 else s) → post r (nI N, f1, nI c, f3, f4, b, a1, a2, a3, a4, a5)) :
    wpX_styleAt post (nI N, f1, nI c, f3, f4, f5, a1, a2, a3, a4, a5) i := by
  unfold wpX_styleAt
  unfold wpX_off
  refine br_c (fun z => br_f (by decide) (H f5 (-4) (by rw [if_pos z]))) (fun z => br_c (fun y => br_t rfl ?_) (fun y => br_f (by decide) (H f5 (-4) (by rw [if_neg z, if_pos (Int32.not_lt.mp y)]))))
  have H' : ∀ b, post s (nI N, f1, nI c, f3, f4, b, a1, a2, a3, a4, a5) := fun b => H b s (by rw [if_neg z, if_neg (Int32.not_le.mpr y)])
  obtain ⟨I, hI, eI⟩ := nI_of z
  subst eI
  have hIN : I < N := (nI_ltI hI (by omega)).mp y
  obtain ⟨ec, e2, e3⟩ := st_R1 hR (by omega)
  subst ec
  subst e3
  unfold wpX_styleHere
  exact st_runA (by omega) (by omega) hN e2 hIN ⟨pk_in 0 68 (by omega), H' 0⟩
/-- the stretch is one of the text -/
def st_x15 (n i j : Int32) : Int32 := if i < 0 then 0 else if j < i then 0 else if n < j then 0 else 1
/-- the flag is in the text -/
def st_x16 (n j : Int32) : Int32 := if j < 0 then 0 else if n < j then 0 else 1
theorem st_setFlag {post : Int32 → St2 → Prop} {f0 f1 f2 f4 f5 j : Int32} {a1 a2 a3 a4 a5 : Nat → Int32}
    (H : ∀ fl r, r = (if st_x16 f0 j = 0 then -1 else 0) → fl = (if st_x16 f0 j = 0 then 0 else j) → post r (f0, f1, f2, fl, f4, f5, a1, a2, a3, a4, a5)) :
    wpX_setFlag post (f0, f1, f2, nI 0, f4, f5, a1, a2, a3, a4, a5) j := by
  unfold wpX_setFlag
  refine br_c (fun z => ?_) (fun z => br_c (fun y => ?_) (fun y => ?_))
  · have e : st_x16 f0 j = 0 := by
      unfold st_x16
      rw [if_pos z]
    exact H (nI 0) (-1) (by rw [if_pos e]) (by rw [if_pos e]; rfl)
  · have e : ¬ st_x16 f0 j = 0 := by
      unfold st_x16
      rw [if_neg z, if_neg (Int32.not_lt.mpr y)]
      decide
    exact H j (nI 0) (by rw [if_neg e]; rfl) (by rw [if_neg e])
  · have e : st_x16 f0 j = 0 := by
      unfold st_x16
      rw [if_neg z, if_pos (Int32.not_le.mp y)]
    exact H (nI 0) (-1) (by rw [if_pos e]) (by rw [if_pos e]; rfl)
theorem st_dropLetters {post : St2 → Prop} {f2 f3 f4 f5 : Int32} {a1 a2 a3 a4 a5 : Nat → Int32} {N g I J : Nat} (hN : N ≤ 64) (hg : g ≤ N) (hI : I ≤ J) (hJ : J ≤ N)
    (H : ∀ a1, post (nI (N - (J - I)), nI I, f2, f3, f4, f5, a1, a2, a3, a4, a5)) : wpX_dropLetters post (nI N, nI g, f2, f3, f4, f5, a1, a2, a3, a4, a5) (nI I) (nI J) := by
  unfold wpX_dropLetters
  exact st_moveGap hN hg hJ (fun a => nm_r (e' := nI (N - (J - I))) (by rw [pk_sub hI, pk_sub (by omega)]) (H a))
theorem st_ds26 {post : St2 → Prop} {f0 f1 f3 f4 f5 : Int32} {a1 a2 a3 a4 a5 : Nat → Int32} {m r M : Nat} (hm : m ≤ 66) (hr : r ≤ m) (h0 : 0 < M) (hM : M ≤ 64) (h2 : a2 r = nI M)
    (H : ∀ b2 b3, st_cl a2 r m b2 → st_cl a3 r m b3 → wX_dropStyles_60 post f0 f1 (nI m) f3 f4 f5 a1 b2 b3 a4 a5) :
    ∃ n, wX_dropStyles_26 post (nI r) n (nI M) 0 f0 f1 (nI (m + 1)) f3 f4 f5 a1 a2 a3 a4 a5 := by
  refine ⟨2, pk_le 64 0 (fun z => absurd z (by omega)) (fun _ => pk_le M 0 (fun z => absurd z (by omega)) (fun _ => ⟨pk_in r 68 (by omega), nm_r (e' := nI 0) ?_ (st_closeRun (by omega) hr (fun b2 b3 k2 k3 => nm_r (nI_1 0) ?_))⟩))⟩
  · rw [pk_cl r, h2, pk_sub (Nat.le_refl M), Nat.sub_self]
  · exact pk_le 64 1 (fun z => absurd z (by omega)) (fun _ => pk_le 0 0 (fun _ => H b2 b3 k2 k3) (fun z => absurd z (by omega)))
theorem st_dropStyles {post : St2 → Prop} {f0 f1 f3 f4 f5 s : Int32} {a1 a2 a3 a4 a5 : Nat → Int32} {N c I J : Nat} (hN : N ≤ 64) (hI : I ≤ J) (hJ : J ≤ N) (hR : st_R c N s a2 a3)
    (H : ∀ (c : Nat) b a2 a3, st_R c (N - (J - I)) s a2 a3 → post (f0, f1, nI c, f3, f4, b, a1, a2, a3, a4, a5)) : wpX_dropStyles post (f0, f1, nI c, f3, f4, f5, a1, a2, a3, a4, a5) (nI I) (nI J) := by
  unfold wpX_dropStyles
  refine pk_eq I J (fun z => H c f5 a2 a3 (by rw [show N - (J - I) = N by omega]; exact hR)) (fun z => ?_)
  obtain ⟨ec, e2, e3⟩ := st_R1 hR (by omega)
  subst ec
  by_cases hJN : J = N
  · refine st_cutB hN e2 (by omega) (by omega) ?_
    by_cases h0 : I = 0
    · subst h0
      refine st_cutZ (by omega) (by omega) hN e2 (by omega) (nm_r (pk_sub hI) (st_ds26 (m := 0) (r := 0) (by omega) (by omega) (by omega) (by omega) (by rw [e2, show N = J - 0 by omega]) (fun b2 b3 _ _ => ?_)))
      unfold wX_dropStyles_60
      exact st_join1 (by omega) (H 0 _ b2 b3 (Or.inl ⟨rfl, by omega⟩))
    · refine st_cutA (by omega) (by omega) hN e2 (by omega) (by omega) (fun b2 b3 k0 k1 _ l0 _ => nm_r (pk_sub hI) (st_ds26 (m := 1) (r := 1) (by omega) (by omega) (by omega) (by omega) (by rw [k1, hJN]) (fun d2 d3 m2 m3 => ?_)))
      unfold wX_dropStyles_60
      refine st_join1 (by omega) (H 1 _ d2 d3 (Or.inr ⟨rfl, ?_, ?_⟩))
      · rw [m2.1 0 (by omega), k0, show N - (J - I) = I by omega]
      · rw [m3.1 0 (by omega), l0, e3]
  · refine st_cutA (by omega) (by omega) hN e2 (by omega) (by omega) (fun b2 b3 k0 k1 _ l0 l1 => ?_)
    have l1' : b3 1 = s := (l1 1 (by omega) (by omega)).trans e3
    by_cases h0 : I = 0
    · subst h0
      refine st_cutZ (by omega) (by omega) (by omega) k0 (by omega) (nm_r (pk_sub hI) (st_ds26 (m := 1) (r := 0) (by omega) (by omega) (by omega) (by omega) k0 (fun d2 d3 m2 m3 => ?_)))
      unfold wX_dropStyles_60
      refine st_join1 (by omega) (H 1 _ d2 d3 (Or.inr ⟨rfl, ?_, ?_⟩))
      · rw [m2.2.1 0 (by omega) (by omega), k1]
        rfl
      · rw [m3.2.1 0 (by omega) (by omega), l1']
    · refine st_cutA (by omega) (by omega) (by omega) k0 (by omega) (by omega) (fun d2 d3 m0 m1 m2 n0 n1 => nm_r (pk_sub hI) (st_ds26 (m := 2) (r := 1) (by omega) (by omega) (by omega) (by omega) m1 (fun g2 g3 o2 o3 => ?_)))
      have q2 : d2 2 = nI (N - J) := (m2 2 (by omega) (by omega)).trans k1
      have q3 : d3 2 = s := (n1 2 (by omega) (by omega)).trans l1'
      have t2 : g2 1 = nI (N - J) := (o2.2.1 1 (by omega) (by omega)).trans q2
      have t3 : g3 1 = s := (o3.2.1 1 (by omega) (by omega)).trans q3
      have v2 : g2 0 = nI I := (o2.1 0 (by omega)).trans m0
      have v3 : g3 0 = s := (o3.1 0 (by omega)).trans (n0.trans (l0.trans e3))
      unfold wX_dropStyles_60
      refine st_join2 (by rw [t3, v3]) (fun h2 h3 w2 w3 => H 1 _ h2 h3 (Or.inr ⟨rfl, ?_, ?_⟩))
      · rw [w2, v2, t2, nI_add, show N - (J - I) = I + (N - J) by omega]
      · rw [w3, v3]
theorem st_delete {post : St2 → Prop} {f4 f5 s : Int32} {a1 a2 a3 a4 a5 : Nat → Int32} {N g c I J : Nat} (hN : N ≤ 64) (hg : g ≤ N) (hI : I ≤ J) (hJ : J ≤ N) (hR : st_R c N s a2 a3)
    (H : ∀ (c : Nat) b a1 a2 a3, st_R c (N - (J - I)) s a2 a3 → post (nI (N - (J - I)), nI I, nI c, nI I, f4, b, a1, a2, a3, a4, a5)) :
    wpX_delete post (nI N, nI g, nI c, nI J, f4, f5, a1, a2, a3, a4, a5) (nI I) (nI J) := by
  unfold wpX_delete
  refine st_dropLetters hN hg hI hJ (fun d1 => st_dropStyles hN hI hJ hR (fun c' b b2 b3 hR' => ?_))
  refine pk_lt J J (fun z => absurd z (by omega)) (fun _ => nm_r (e' := nI I) ?_ (H c' b d1 b2 b3 hR'))
  rw [pk_sub hI, pk_sub (by omega), show J - (J - I) = I by omega]
theorem st_remove {post : Int32 → St2 → Prop} {fl f4 f5 s i j : Int32} {a1 a2 a3 a4 a5 : Nat → Int32} {N g c : Nat} (hN : N ≤ 64) (hg : g ≤ N) (hR : st_R c N s a2 a3) (hf : st_x15 (nI N) i j = 1 → fl = j)
    (H : ∀ (N' g c : Nat) fl' b a1 a2 a3 r, (st_x15 (nI N) i j = 0 ∧ r = -1 ∧ N' = N ∧ fl' = fl) ∨ (st_x15 (nI N) i j = 1 ∧ r = nI N' ∧ nI N' = nI N - (j - i) ∧ fl' = i) → N' ≤ N → st_R c N' s a2 a3 → post r (nI N', nI g, nI c, fl', f4, b, a1, a2, a3, a4, a5)) :
    wpX_remove post (nI N, nI g, nI c, fl, f4, f5, a1, a2, a3, a4, a5) i j := by
  have Hn : st_x15 (nI N) i j = 0 → post (-1) (nI N, nI g, nI c, fl, f4, f5, a1, a2, a3, a4, a5) := fun z => H N g c fl f5 a1 a2 a3 (-1) (Or.inl ⟨z, rfl, rfl, rfl⟩) (Nat.le_refl N) hR
  unfold wpX_remove
  unfold wpX_bad
  refine br_c (fun z => br_f (by decide) (Hn ?_)) (fun z => br_c (fun y => br_f (by decide) (Hn ?_)) (fun y => br_c (fun x => br_t rfl ?_) (fun x => br_f (by decide) (Hn ?_))))
  · unfold st_x15
    rw [if_pos z]
  · unfold st_x15
    rw [if_neg z, if_pos y]
  · have e : st_x15 (nI N) i j = 1 := by
      unfold st_x15
      rw [if_neg z, if_neg y, if_neg (Int32.not_lt.mpr x)]
    have ef := hf e
    subst ef
    obtain ⟨I, hI, eI⟩ := nI_of z
    subst eI
    obtain ⟨J, hJ, eJ⟩ := nI_of (x := fl) (fun t => by
      rw [Int32.lt_iff_toInt_lt] at t y z
      have q0 : (0 : Int32).toInt = 0 := by decide
      omega)
    subst eJ
    have h1 : I ≤ J := by
      rw [nI_ltI hJ hI] at y
      omega
    have h2 : J ≤ N := (nI_leI hJ (by omega)).mp x
    exact st_delete hN hg h1 h2 hR (fun c' b b1 b2 b3 hR' => H (N - (J - I)) I c' (nI I) b b1 b2 b3 _ (Or.inr ⟨e, rfl, by rw [pk_sub h1, pk_sub (by omega)], rfl⟩) (by omega) hR')
  · unfold st_x15
    rw [if_neg z, if_neg y, if_pos (Int32.not_le.mp x)]
theorem st_having {post : Int32 → Prop} {f0 f1 f3 f4 f5 s k : Int32} {a1 a2 a3 a4 a5 : Nat → Int32} {N c : Nat} (hR : st_R c N s a2 a3)
    (H : ∀ r, r = (if k < 0 then -1 else if 7 < k then -1 else if s &&& k = k then nI N else 0) → post r) : wpX_having post (f0, f1, nI c, f3, f4, f5, a1, a2, a3, a4, a5) k := by
  unfold wpX_having
  refine br_c (fun z => H (-1) (by rw [if_pos z])) (fun z => br_c (fun y => ?_) (fun y => H (-1) (by rw [if_neg z, if_pos (Int32.not_le.mp y)])))
  have H' : post (if s &&& k = k then nI N else 0) := H _ (by rw [if_neg z, if_neg (Int32.not_lt.mpr y)])
  rcases hR with ⟨ec, eN⟩ | ⟨ec, e2, e3⟩
  · subst ec
    subst eN
    refine ⟨1, pk_le 0 0 (fun _ => ?_) (fun z => absurd z (by omega))⟩
    rw [nI_0, ite_self] at H'
    exact H'
  · subst ec
    refine ⟨2, pk_le 1 0 (fun z => absurd z (by omega)) (fun _ => ⟨pk_in 0 68 (by omega), ?_⟩)⟩
    have e3' : a3 (0 : Int32).toNatClampNeg = s := e3
    have e2' : (0 : Int32) + a2 (0 : Int32).toNatClampNeg = nI N := by
      rw [show (0 : Int32).toNatClampNeg = 0 from rfl, e2, Int32.zero_add]
    rw [e3']
    refine br_c (fun x => ⟨pk_in 0 68 (by omega), nm_r e2' (nm_r (nI_1 0) (pk_le 1 1 (fun _ => ?_) (fun z => absurd z (by omega))))⟩) (fun x => nm_r (nI_1 0) (pk_le 1 1 (fun _ => ?_) (fun z => absurd z (by omega))))
    · rw [if_pos x] at H'
      exact H'
    · rw [if_neg x] at H'
      exact H'
end
section
theorem st_t331 {post : Int32 → St0 → Prop} {mc ms kc ks : Nat} {z0 z1 : Int32} (hp : post 1 ()) (h : z1 = z0) : wL_lawOf_331 post mc ms z0 z1 kc ks := by
  unfold wL_lawOf_331
  exact br_t h hp
theorem st_t292 {post : Int32 → St0 → Prop} {mc ms kc ks : Nat} {x2 x3 x11 x12 x13 x17 x19 x20 z0 z1 : Int32} (hp : post 1 ()) (h : z1 = z0) (h5 : x11 = x19)
    (h6 : x12 = if x20 = 0 then -1 else if x13 = 0 then 0 else if x3 &&& x2 = x2 then x17 else 0) :
    wL_lawOf_292 post mc ms x2 x3 x11 x12 x13 x17 x19 x20 z0 z1 kc ks := by
  unfold wL_lawOf_292
  refine br_t h (br_t h5 (br_c (fun e => st_t331 hp ?_) (fun e => br_c (fun f => st_t331 hp ?_) (fun f => br_c (fun g => st_t331 hp ?_) (fun g => st_t331 hp ?_)))))
  · rw [h6, if_pos e]
  · rw [h6, if_neg e, if_pos f]
  · rw [h6, if_neg e, if_neg f, if_pos g]
  · rw [h6, if_neg e, if_neg f, if_neg g]
theorem st_t276 {post : Int32 → St0 → Prop} {mc ms kc ks : Nat} {x2 x3 x10 x11 x12 x13 x15 x17 x19 x20 z0 z1 : Int32} (hp : post 1 ()) (h : z1 = z0)
    (h4 : x10 = if x15 = 0 then -1 else x17) (h5 : x11 = x19) (h6 : x12 = if x20 = 0 then -1 else if x13 = 0 then 0 else if x3 &&& x2 = x2 then x17 else 0) :
    wL_lawOf_276 post mc ms x2 x3 x10 x11 x12 x13 x15 x17 x19 x20 z0 z1 kc ks := by
  unfold wL_lawOf_276
  exact br_t h (br_c (fun e => st_t292 hp (by rw [h4, if_pos e]) h5 h6) (fun e => st_t292 hp (by rw [h4, if_neg e]) h5 h6))
theorem st_t261 {post : Int32 → St0 → Prop} {mc ms kc ks : Nat} {x2 x3 x9 x10 x11 x12 x13 x15 x16 x17 x19 x20 z0 z1 : Int32} (hp : post 1 ()) (h : z1 = z0)
    (h3 : x9 = if x16 = 0 then -1 else 0) (h4 : x10 = if x15 = 0 then -1 else x17) (h5 : x11 = x19) (h6 : x12 = if x20 = 0 then -1 else if x13 = 0 then 0 else if x3 &&& x2 = x2 then x17 else 0) :
    wL_lawOf_261 post mc ms x2 x3 x9 x10 x11 x12 x13 x15 x16 x17 x19 x20 z0 z1 kc ks := by
  unfold wL_lawOf_261
  exact br_t h (br_c (fun e => st_t276 hp (by rw [h3, if_pos e]) h4 h5 h6) (fun e => st_t276 hp (by rw [h3, if_neg e]) h4 h5 h6))
theorem st_t238 {post : Int32 → St0 → Prop} {mc ms kc ks : Nat} {x2 x3 x4 x8 x9 x10 x11 x12 x13 x14 x15 x16 x17 x19 x20 z0 z1 : Int32} (hp : post 1 ()) (h : z1 = z0)
    (h2 : x8 = if x4 < 0 then -4 else if x14 ≤ x4 then -4 else x3)
    (h3 : x9 = if x16 = 0 then -1 else 0) (h4 : x10 = if x15 = 0 then -1 else x17) (h5 : x11 = x19) (h6 : x12 = if x20 = 0 then -1 else if x13 = 0 then 0 else if x3 &&& x2 = x2 then x17 else 0) :
    wL_lawOf_238 post mc ms x2 x3 x4 x8 x9 x10 x11 x12 x13 x14 x15 x16 x17 x19 x20 z0 z1 kc ks := by
  unfold wL_lawOf_238
  refine br_t h (br_c (fun e => ?_) (fun e => br_c (fun f => ?_) (fun f => ?_)))
  · unfold wL_lawOf_259
    exact st_t261 hp (by rw [h2, if_pos e]) h3 h4 h5 h6
  · unfold wL_lawOf_259
    exact st_t261 hp (by rw [h2, if_neg e, if_pos f]) h3 h4 h5 h6
  · exact st_t261 hp (by rw [h2, if_neg e, if_neg f]) h3 h4 h5 h6
theorem st_t224 {post : Int32 → St0 → Prop} {mc ms kc ks : Nat} {x2 x3 x4 x7 x8 x9 x10 x11 x12 x13 x14 x15 x16 x17 x19 z0 : Int32} (hp : post 1 ())
    (h1 : x7 = if x13 = 0 then -1 else x2) (h2 : x8 = if x4 < 0 then -4 else if x14 ≤ x4 then -4 else x3)
    (h3 : x9 = if x16 = 0 then -1 else 0) (h4 : x10 = if x15 = 0 then -1 else x17) (h5 : x11 = x19) (h6 : x12 = if z0 = 0 then -1 else if x13 = 0 then 0 else if x3 &&& x2 = x2 then x17 else 0) :
    wL_lawOf_224 post mc ms x2 x3 x4 x7 x8 x9 x10 x11 x12 x13 x14 x15 x16 x17 x19 z0 kc ks := by
  unfold wL_lawOf_224
  exact br_c (fun e => st_t238 hp (by rw [h1, if_pos e]) h2 h3 h4 h5 h6) (fun e => st_t238 hp (by rw [h1, if_neg e]) h2 h3 h4 h5 h6)
theorem st_t207 {post : Int32 → St0 → Prop} {mc ms kc ks : Nat} {x2 x3 x4 x7 x8 x9 x10 x11 x12 x13 x14 x15 x16 x17 z0 : Int32} (hp : post 1 ())
    (h1 : x7 = if x13 = 0 then -1 else x2) (h2 : x8 = if x4 < 0 then -4 else if x14 ≤ x4 then -4 else x3)
    (h3 : x9 = if x16 = 0 then -1 else 0) (h4 : x10 = if x15 = 0 then -1 else x17) (h5 : x11 = z0)
    (h6 : x12 = if x2 < 0 then -1 else if 7 < x2 then -1 else if x13 = 0 then 0 else if x3 &&& x2 = x2 then x17 else 0) :
    wL_lawOf_207 post mc ms x2 x3 x4 x7 x8 x9 x10 x11 x12 x13 x14 x15 x16 x17 z0 kc ks := by
  unfold wL_lawOf_207
  refine br_c (fun e => ?_) (fun e => br_c (fun f => ?_) (fun f => ?_))
  · unfold wL_lawOf_223
    exact st_t224 hp h1 h2 h3 h4 h5 (by rw [h6, if_pos e, if_pos rfl])
  · unfold wL_lawOf_223
    exact st_t224 hp h1 h2 h3 h4 h5 (by rw [h6, if_neg e, if_pos f, if_pos rfl])
  · exact st_t224 hp h1 h2 h3 h4 h5 (by rw [h6, if_neg e, if_neg f, if_neg (show ¬ (1 : Int32) = 0 by decide)])
theorem st_t180 {post : Int32 → St0 → Prop} {mc ms kc ks : Nat} {x2 x3 x4 x5 x7 x8 x9 x10 x11 x12 x13 x14 x15 x16 z0 : Int32} (hp : post 1 ())
    (h1 : x7 = if x13 = 0 then -1 else x2) (h2 : x8 = if x4 < 0 then -4 else if x14 ≤ x4 then -4 else x3)
    (h3 : x9 = if x16 = 0 then -1 else 0) (h4 : x10 = if x15 = 0 then -1 else z0) (h5 : x11 = if x15 = 0 then (if x16 = 0 then 0 else x5) else x4)
    (h6 : x12 = if x2 < 0 then -1 else if 7 < x2 then -1 else if x13 = 0 then 0 else if x3 &&& x2 = x2 then z0 else 0) :
    wL_lawOf_180 post mc ms x2 x3 x4 x5 x7 x8 x9 x10 x11 x12 x13 x14 x15 x16 z0 kc ks := by
  unfold wL_lawOf_180
  refine br_c (fun e => ?_) (fun e => ?_)
  · unfold wL_lawOf_193
    exact br_c (fun f => st_t207 hp h1 h2 h3 h4 (by rw [h5, if_pos f, if_pos e]) h6) (fun f => st_t207 hp h1 h2 h3 h4 (by rw [h5, if_neg f]) h6)
  · unfold wL_lawOf_193
    exact br_c (fun f => st_t207 hp h1 h2 h3 h4 (by rw [h5, if_pos f, if_neg e]) h6) (fun f => st_t207 hp h1 h2 h3 h4 (by rw [h5, if_neg f]) h6)
theorem st_t160 {post : Int32 → St0 → Prop} {mc ms kc ks : Nat} {x2 x3 x4 x5 x7 x8 x9 x10 x11 x12 x13 x14 x15 z0 : Int32} (hp : post 1 ())
    (h1 : x7 = if x13 = 0 then -1 else x2) (h2 : x8 = if x4 < 0 then -4 else if x14 ≤ x4 then -4 else x3)
    (h3 : x9 = if z0 = 0 then -1 else 0) (h4 : x10 = if x15 = 0 then -1 else x14 - (x5 - x4)) (h5 : x11 = if x15 = 0 then (if z0 = 0 then 0 else x5) else x4)
    (h6 : x12 = if x2 < 0 then -1 else if 7 < x2 then -1 else if x13 = 0 then 0 else if x3 &&& x2 = x2 then (if x15 = 0 then x14 else x14 - (x5 - x4)) else 0) :
    wL_lawOf_160 post mc ms x2 x3 x4 x5 x7 x8 x9 x10 x11 x12 x13 x14 x15 z0 kc ks := by
  unfold wL_lawOf_160
  refine br_c (fun e => ?_) (fun e => ?_)
  · rw [if_pos e] at h6
    exact st_t180 hp h1 h2 h3 (by rw [h4, if_pos e, if_pos e]) h5 h6
  · rw [if_neg e] at h6
    exact st_t180 hp h1 h2 h3 h4 h5 h6
theorem st_t115 {post : Int32 → St0 → Prop} {mc ms kc ks : Nat} {x2 x3 x4 x5 x7 x8 x9 x10 x11 x12 x13 n : Int32} (hp : post 1 ())
    (h1 : x7 = if x13 = 0 then -1 else x2) (h2 : x8 = if x4 < 0 then -4 else if n ≤ x4 then -4 else x3)
    (h3 : x9 = if st_x16 n x5 = 0 then -1 else 0) (h4 : x10 = if st_x15 n x4 x5 = 0 then -1 else n - (x5 - x4)) (h5 : x11 = if st_x15 n x4 x5 = 0 then (if st_x16 n x5 = 0 then 0 else x5) else x4)
    (h6 : x12 = if x2 < 0 then -1 else if 7 < x2 then -1 else if x13 = 0 then 0 else if x3 &&& x2 = x2 then (if st_x15 n x4 x5 = 0 then n else n - (x5 - x4)) else 0) :
    wL_lawOf_115 post mc ms x2 x3 x4 x5 x7 x8 x9 x10 x11 x12 x13 n kc ks := by
  have key : ∀ q, q = st_x15 n x4 x5 → wL_lawOf_141 post mc ms x2 x3 x4 x5 x7 x8 x9 x10 x11 x12 x13 n q kc ks := by
    intro q hq
    rw [← hq] at h4 h5 h6
    have key2 : ∀ w, w = st_x16 n x5 → wL_lawOf_160 post mc ms x2 x3 x4 x5 x7 x8 x9 x10 x11 x12 x13 n q w kc ks := by
      intro w hw
      rw [← hw] at h3 h5
      exact st_t160 hp h1 h2 h3 h4 h5 h6
    unfold wL_lawOf_141
    refine br_c (fun e => ?_) (fun e => br_c (fun f => ?_) (fun f => key2 1 ?_))
    · unfold wL_lawOf_159
      exact key2 0 (by unfold st_x16; rw [if_pos e])
    · unfold wL_lawOf_159
      exact key2 0 (by unfold st_x16; rw [if_neg e, if_pos f])
    · unfold st_x16
      rw [if_neg e, if_neg f]
  unfold wL_lawOf_115
  refine br_c (fun e => ?_) (fun e => br_c (fun f => ?_) (fun f => br_c (fun g => ?_) (fun g => key 1 ?_)))
  · unfold wL_lawOf_140
    exact key 0 (by unfold st_x15; rw [if_pos e])
  · unfold wL_lawOf_140
    exact key 0 (by unfold st_x15; rw [if_neg e, if_pos f])
  · unfold wL_lawOf_140
    exact key 0 (by unfold st_x15; rw [if_neg e, if_neg f, if_pos g])
  · unfold st_x15
    rw [if_neg e, if_neg f, if_neg g]
/-- the law's end: z says whether the put fits, n is the text's length behind it -/
theorem st_tail {post : Int32 → St0 → Prop} {mc ms kc ks : Nat} {k s i j r1 r2 r3 r4 r5 r6 z n : Int32} (hp : post 1 ()) (hn : n = if z = 0 then 0 else k)
    (h1 : r1 = if z = 0 then -1 else k) (h2 : r2 = if i < 0 then -4 else if n ≤ i then -4 else s)
    (h3 : r3 = if st_x16 n j = 0 then -1 else 0) (h4 : r4 = if st_x15 n i j = 0 then -1 else n - (j - i)) (h5 : r5 = if st_x15 n i j = 0 then (if st_x16 n j = 0 then 0 else j) else i)
    (h6 : r6 = if k < 0 then -1 else if 7 < k then -1 else if z = 0 then 0 else if s &&& k = k then (if st_x15 n i j = 0 then n else n - (j - i)) else 0) :
    wL_lawOf_103 post mc ms k s i j r1 r2 r3 r4 r5 r6 z kc ks := by
  have t := st_t115 (mc := mc) (ms := ms) (kc := kc) (ks := ks) hp h1 h2 h3 h4 h5 h6
  unfold wL_lawOf_103
  refine br_c (fun e => ?_) (fun e => ?_)
  · rw [if_pos e] at hn
    rw [hn] at t
    exact t
  · rw [if_neg e] at hn
    rw [hn] at t
    exact t
end
section
theorem st_flag {post : Int32 → Prop} {f0 f1 f2 f3 f4 f5 : Int32} {a1 a2 a3 a4 a5 : Nat → Int32} (H : post f3) : wpX_flag post (f0, f1, f2, f3, f4, f5, a1, a2, a3, a4, a5) := by
  unfold wpX_flag
  exact H
theorem st_lawOf {post : Int32 → St0 → Prop} (hp : post 1 ()) (p c k s i j : Int32) : wpL_lawOf post 182 2896 () p c k s i j := by
  unfold wpL_lawOf
  refine ⟨by omega, by omega, 181, 2885, by omega, by omega, ?_⟩
  refine ⟨by omega, by omega, by omega, by omega, by omega, by omega, by omega, by omega, by omega, by omega, ?_⟩
  refine st_put (fun N g cc b a1 a2 a3 r1 h1 hN hg hR => ?_)
  refine st_styleAt hN hR (fun b' r2 h2 => ?_)
  refine st_setFlag (fun fl r3 h3 hfl => ?_)
  have hf : st_x15 (nI N) i j = 1 → fl = j := by
    intro e
    have e' : ¬ st_x16 (nI N) j = 0 := by
      unfold st_x15 at e
      by_cases z : i < 0
      · rw [if_pos z] at e
        exact absurd e (by decide)
      · rw [if_neg z] at e
        by_cases y : j < i
        · rw [if_pos y] at e
          exact absurd e (by decide)
        · rw [if_neg y] at e
          by_cases x : nI N < j
          · rw [if_pos x] at e
            exact absurd e (by decide)
          · unfold st_x16
            have w : ¬ j < 0 := fun t => by
              rw [Int32.lt_iff_toInt_lt] at t y z
              have q0 : (0 : Int32).toInt = 0 := by decide
              omega
            rw [if_neg w, if_neg x]
            decide
    rw [hfl, if_neg e']
  refine st_remove hN hg hR hf (fun N' g' c' fl' b'' d1 d2 d3 r4 h4 hN' hR' => ?_)
  refine st_flag ?_
  refine st_having hR' (fun r6 h6 => ?_)
  have key : ∀ z : Int32, (st_fits p c k s ∧ z = 1) ∨ (¬ st_fits p c k s ∧ z = 0) → wL_lawOf_103 post 182 2896 k s i j r1 r2 r3 r4 fl' r6 z (1 + 181) (11 + 2885) := by
    intro z hz
    have hz' : (z = 0 ∧ r1 = -1 ∧ N = 0) ∨ (¬ z = 0 ∧ r1 = k ∧ k = nI N) := by
      rcases hz with ⟨a, e⟩ | ⟨a, e⟩
      · rcases h1 with h | h
        · exact Or.inr ⟨by rw [e]; decide, h.2⟩
        · exact absurd a h.1
      · rcases h1 with h | h
        · exact absurd h.1 a
        · exact Or.inl ⟨e, h.2⟩
    have hN2 : nI N' = if st_x15 (nI N) i j = 0 then nI N else nI N - (j - i) := by
      rcases h4 with ⟨e, _, eN, _⟩ | ⟨e, _, eN, _⟩
      · rw [if_pos e, eN]
      · rw [if_neg (by rw [e]; decide), eN]
    refine st_tail (n := nI N) hp ?_ ?_ h2 h3 ?_ ?_ ?_
    · rcases hz' with ⟨e, _, eN⟩ | ⟨e, _, eN⟩
      · rw [if_pos e, eN]
        rfl
      · rw [if_neg e, eN]
    · rcases hz' with ⟨e, er, _⟩ | ⟨e, er, _⟩
      · rw [if_pos e, er]
      · rw [if_neg e, er]
    · rcases h4 with ⟨e, er, _, _⟩ | ⟨e, er, eN, _⟩
      · rw [if_pos e, er]
      · rw [if_neg (by rw [e]; decide), er, eN]
    · rcases h4 with ⟨e, _, _, ef⟩ | ⟨e, _, _, ef⟩
      · rw [if_pos e, ef, hfl]
      · rw [if_neg (by rw [e]; decide), ef]
    · rw [h6, ← hN2]
      rcases hz' with ⟨e, _, eN⟩ | ⟨e, _, _⟩
      · rw [if_pos e, show N' = 0 by omega, nI_0, ite_self]
      · rw [if_neg e]
  have kn : ¬ st_fits p c k s → wL_lawOf_102 post 182 2896 k s i j r1 r2 r3 r4 fl' r6 (1 + 181) (11 + 2885) := by
    intro h
    unfold wL_lawOf_102
    exact key 0 (Or.inr ⟨h, rfl⟩)
  exact br_c (fun e0 => br_c (fun z => kn (fun t => t.2.1 z)) (fun e1 => br_c (fun z => kn (fun t => t.2.2.1 z)) (fun e2 => br_c (fun z => kn (fun t => t.2.2.2.1 z)) (fun e3 => br_c (fun z => kn (fun t => t.2.2.2.2.1 z)) (fun e4 => br_c (fun z => kn (fun t => t.2.2.2.2.2.1 z)) (fun e5 => br_c (fun z => kn (fun t => t.2.2.2.2.2.2 z)) (fun e6 => key 1 (Or.inl ⟨⟨e0, e1, e2, e3, e4, e5, e6⟩, rfl⟩)))))))) (fun z => kn (fun t => z t.1))
theorem st_cell {post : Int32 → Prop} {L : Nat} {xs : Nat → Int32} (q : Nat) (hq : q < 2 ^ 31) (hL : L ≤ 6) (H : ∀ r, post r) : wpL_cellAt post L xs () (nI q) := by
  unfold wpL_cellAt
  exact pk_le L q (fun _ => H _) (fun z => ⟨vp_in_nI z (by omega), H _⟩)
theorem i_vc (xs : Nat → Int32) (L : Nat) (hL : L ≤ 6) : wpL_law (fun r => r = 1) L xs := by
  unfold wpL_law
  refine st_cell 0 (by omega) hL (fun p => st_cell 1 (by omega) hL (fun c => st_cell 2 (by omega) hL (fun k => st_cell 3 (by omega) hL (fun s => st_cell 4 (by omega) hL (fun i => st_cell 5 (by omega) hL (fun j => ?_))))))
  exact ⟨182, 2896, by omega, by omega, st_lawOf rfl p c k s i j⟩
end
