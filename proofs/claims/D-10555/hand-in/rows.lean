section
/-- a validator; a checkpoint; a vote that is taken; a flag -/
def vw_v (p : Int32) : Prop := ¬ p < 0 ∧ ¬ 7 < p
def vw_c (p : Int32) : Prop := ¬ p < 0 ∧ ¬ 126 < p ∧ ¬ (p &&& 3) = 3
def vw_ok (p q r : Int32) : Prop := vw_v p ∧ vw_c q ∧ vw_c r ∧ (q >>> ((2 : Int32) &&& 31)) < (r >>> ((2 : Int32) &&& 31))
def vw_f (P : Prop) (x : Int32) : Prop := (P ∧ x = 1) ∨ (¬ P ∧ x = 0)
theorem vw_ft {P : Prop} {x : Int32} (h : vw_f P x) (p : P) : x = 1 := h.elim (fun z => z.2) (fun z => absurd p z.1)
theorem vw_ff {P : Prop} {x : Int32} (h : vw_f P x) (p : ¬ P) : x = 0 := h.elim (fun z => absurd z.1 p) (fun z => z.2)
theorem vw_fn {P : Prop} {x : Int32} (h : vw_f P x) (p : P) : ¬ x = 0 := by
  rw [vw_ft h p]
  decide
theorem vw_vN {p : Int32} (h : vw_v p) : ∃ v : Nat, v < 8 ∧ p = nI v := by
  obtain ⟨j, hj, e⟩ := nI_of2 (M := 7) (n := 7) (by decide) h.1 (Int32.not_lt.mp h.2)
  exact ⟨j, by omega, e⟩
theorem vw_cN {p : Int32} (h : vw_c p) : ∃ c : Nat, c < 127 ∧ p = nI c := by
  obtain ⟨j, hj, e⟩ := nI_of2 (M := 126) (n := 126) (by decide) h.1 (Int32.not_lt.mp h.2.1)
  exact ⟨j, by omega, e⟩
theorem vw_sh {c : Nat} (h : c < 127) : nI c >>> ((2 : Int32) &&& 31) = nI (c / 4) := pk_shrN (by omega) _ 2 (by decide)
theorem vw_val {post : Int32 → Prop} {p : Int32} (h1 : vw_v p → post 1) (h0 : ¬ vw_v p → post 0) : wpX_isValidator post () p :=
  br_c (fun z => h0 (fun h => h.1 z)) (fun z => br_c (fun y => h0 (fun h => h.2 y)) (fun y => h1 ⟨z, y⟩))
theorem vw_chk {post : Int32 → Prop} {p : Int32} (h1 : vw_c p → post 1) (h0 : ¬ vw_c p → post 0) : wpX_isCheckpoint post () p :=
  br_c (fun z => h0 (fun h => h.1 z)) (fun z => br_c (fun y => h0 (fun h => h.2.1 y)) (fun y => br_c (fun x => h0 (fun h => h.2.2 x)) (fun x => h1 ⟨z, y, x⟩)))
/-! the constructor -/
theorem vw_fill {s : Nat → Int32} {i k : Nat} {x : Int32} (hk : k = i) (h : ∀ j, j < i → s j = x) : ∀ j, j < i + 1 → upd s k x j = x := by
  intro j hj
  rw [hk]
  by_cases e : j = i
  · rw [e, pk_us]
  · rw [pk_un e]
    exact h j (by omega)
theorem vw_i103 {post : St2 → Prop} {mc ms kc ks : Nat} {f0 f1 f2 f3 : Int32} {a1 a2 a3 a4 a5 a6 a7 a8 a9 : Nat → Int32}
    (H : ∀ b2 b3 : Nat → Int32, (∀ j, j < 256 → b2 j = 32) → (∀ j, j < 256 → b3 j = -1) → post (f0, f1, f2, f3, a1, b2, b3, a4, a5, a6, a7, a8, a9)) :
    ∃ n, wX_init_103 post mc ms kc ks f0 f1 f2 f3 n 0 a1 a2 a3 a4 a5 a6 a7 a8 a9 :=
  pk_loop (σ := (Nat → Int32) × (Nat → Int32)) (fun n i s => wX_init_103 post mc ms kc ks f0 f1 f2 f3 n (nI i) a1 s.1 s.2 a4 a5 a6 a7 a8 a9) (fun i s => (∀ j, j < i → s.1 j = 32) ∧ (∀ j, j < i → s.2 j = -1)) 256 0 (a2, a3) (by omega)
    ⟨fun j hj => absurd hj (by omega), fun j hj => absurd hj (by omega)⟩
    (fun n s h => pk_le 256 256 (fun _ => H s.1 s.2 h.1 h.2) (fun z => absurd z (by omega)))
    (fun n i s hi h hw => pk_le 256 i (fun z => absurd z (by omega)) (fun _ => ⟨pk_in i 256 (by omega), nm_e ⟨pk_in i 256 (by omega), nm_e (nm_r (nI_1 i) (hw (_, _) ⟨vw_fill (nI_clamp (by omega)) h.1, vw_fill (nI_clamp (by omega)) h.2⟩))⟩⟩))
theorem vw_i82 {post : St2 → Prop} {mc ms kc ks : Nat} {f0 f1 f2 f3 : Int32} {a1 a2 a3 a4 a5 a6 a7 a8 a9 : Nat → Int32}
    (H : ∀ b1 b2 b3 : Nat → Int32, (∀ j, j < 8 → b1 j = 1) → (∀ j, j < 256 → b2 j = 32) → (∀ j, j < 256 → b3 j = -1) → post (f0, f1, f2, f3, b1, b2, b3, a4, a5, a6, a7, a8, a9)) :
    ∃ n, wX_init_82 post mc ms kc ks f0 f1 f2 f3 n 0 a1 a2 a3 a4 a5 a6 a7 a8 a9 :=
  pk_loop (fun n i s => wX_init_82 post mc ms kc ks f0 f1 f2 f3 n (nI i) s a2 a3 a4 a5 a6 a7 a8 a9) (fun i s => ∀ j, j < i → s j = 1) 8 0 a1 (by omega)
    (fun j hj => absurd hj (by omega))
    (fun n s h => pk_le 8 8 (fun _ => vw_i103 (fun b2 b3 h2 h3 => H s b2 b3 h h2 h3)) (fun z => absurd z (by omega)))
    (fun n i s hi h hw => pk_le 8 i (fun z => absurd z (by omega)) (fun _ => ⟨pk_in i 8 (by omega), nm_e (nm_r (nI_1 i) (hw _ (vw_fill (nI_clamp (by omega)) h)))⟩))
theorem vw_init {post : St2 → Prop}
    (H : ∀ b1 b2 b3 : Nat → Int32, (∀ j, j < 8 → b1 j = 1) → (∀ j, j < 256 → b2 j = 32) → (∀ j, j < 256 → b3 j = -1) → post (0, 0, 0, 0, b1, b2, b3, (fun _ => 0), (fun _ => 0), (fun _ => 0), (fun _ => 0), (fun _ => 0), (fun _ => 0))) :
    wpX_init post 9 1104 (0, 0, 0, 0) :=
  ⟨by decide, by decide, by decide, by decide, by decide, by decide, by decide, by decide, by decide, by decide, by decide, by decide, by decide, by decide, by decide, by decide, by decide, by decide, vw_i82 H⟩
/-! links -/
theorem vw_link0 {post : Int32 → Prop} {f0 f1 f3 : Int32} {a1 a2 a3 a4 a5 a6 a7 a8 a9 : Nat → Int32} {p q : Int32} (H : post (-1)) : wpX_linkOf post (f0, f1, 0, f3, a1, a2, a3, a4, a5, a6, a7, a8, a9) p q :=
  ⟨1, br_t (by decide) H⟩
theorem vw_link1 {post : Int32 → Prop} {f0 f1 f3 : Int32} {a1 a2 a3 a4 a5 a6 a7 a8 a9 : Nat → Int32} {p q : Int32} (h6 : a6 0 = p) (h7 : a7 0 = q) (H : post 0) : wpX_linkOf post (f0, f1, 1, f3, a1, a2, a3, a4, a5, a6, a7, a8, a9) p q :=
  ⟨1, br_f (by decide) ⟨pk_in 0 64 (by omega), br_t (by rw [sb_cl0]; exact h6) ⟨pk_in 0 64 (by omega), br_t (by rw [sb_cl0]; exact h7) H⟩⟩⟩
theorem vw_opl {post : Int32 → St2 → Prop} {f0 f1 f3 : Int32} {a1 a2 a3 a4 a5 a6 a7 a8 a9 : Nat → Int32} {p q : Int32} (H : post 0 (f0, f1, 1, f3, a1, a2, a3, a4, a5, upd a6 0 p, upd a7 0 q, upd a8 0 0, a9)) : wpX_openLink post (f0, f1, 0, f3, a1, a2, a3, a4, a5, a6, a7, a8, a9) p q :=
  ⟨1, br_t (by decide) ⟨pk_in 0 64 (by omega), nm_r (by rw [sb_cl0]) ⟨pk_in 0 64 (by omega), nm_r (by rw [sb_cl0]) ⟨pk_in 0 64 (by omega), nm_r (by rw [sb_cl0]) (nm_r (e' := 1) (by decide) H)⟩⟩⟩⟩
/-! offences: the first vote has none -/
theorem vw_m1 {t : Nat} (h : t < 32) : (-1 : Int32) ≤ nI t := by
  rw [Int32.le_iff_toInt_le, nI_toInt (by omega), show (-1 : Int32).toInt = -1 by decide]
  omega
theorem vw_judge {post : Int32 → Prop} {f0 f1 f2 f3 : Int32} {a1 a2 a3 a4 a5 a6 a7 a8 a9 : Nat → Int32} {p q r : Int32} {v s t : Nat} (e0 : p = nI v) (e1 : q = nI s) (e2 : r = nI t) (hv : v < 8) (hs : s < 32) (ht : t < 32)
    (h2 : ∀ j, j < 256 → a2 j = 32) (h3 : ∀ j, j < 256 → a3 j = -1) (h4 : ∀ j, a4 j = 0) (H : post 0) : wpX_judge post (f0, f1, f2, f3, a1, a2, a3, a4, a5, a6, a7, a8, a9) p q r := by
  subst e0 e1 e2
  refine nm_r (pk_mul 32 v) ⟨pk_in (32 * v + t) 256 (by omega) (nI_add _ _), br_t ?_ ?_⟩
  · rw [h4]
    decide
  · refine ⟨pk_in (32 * v + s) 256 (by omega) (nI_add _ _), br_t ?_ ?_⟩
    · rw [nI_add, nI_clamp (by omega), h2 _ (by omega)]
      exact nI_le (b := 32) (by omega) (by decide)
    · refine nm_r (e' := 0) (by decide) ⟨pk_in (32 * v + s) 256 (by omega) (nI_add _ _), br_t ?_ (nm_r (e' := 0) (by decide) H)⟩
      rw [nI_add, nI_clamp (by omega), h3 _ (by omega)]
      exact vw_m1 ht
theorem vw_e77 {post : St2 → Prop} {x : Int32} {f0 f1 f2 f3 : Int32} {a1 a2 a3 a4 a5 a6 a7 a8 a9 : Nat → Int32} {v i0 : Nat} (hv : v < 8) (hi : i0 ≤ 32) (H : ∀ b3 : Nat → Int32, post (f0, f1, f2, f3, a1, a2, b3, a4, a5, a6, a7, a8, a9)) :
    ∃ n, wX_enter_77 post x (nI (32 * v)) f0 f1 f2 f3 n (nI i0) a1 a2 a3 a4 a5 a6 a7 a8 a9 :=
  pk_loop (fun n i s => wX_enter_77 post x (nI (32 * v)) f0 f1 f2 f3 n (nI i) a1 a2 s a4 a5 a6 a7 a8 a9) (fun _ _ => True) 32 i0 a3 hi trivial
    (fun n s _ => pk_le 32 32 (fun _ => H s) (fun z => absurd z (by omega)))
    (fun n i s hi _ hw => pk_le 32 i (fun z => absurd z (by omega)) (fun _ => ⟨pk_in (32 * v + i) 256 (by omega) (nI_add _ _), br_c
      (fun _ => ⟨pk_in (32 * v + i) 256 (by omega) (nI_add _ _), pk_in (32 * v + i) 256 (by omega) (nI_add _ _), nm_e (nm_r (nI_1 i) (hw _ trivial))⟩)
      (fun _ => ⟨pk_in (32 * v + i) 256 (by omega) (nI_add _ _), nm_e (nm_r (nI_1 i) (hw _ trivial))⟩)⟩))
theorem vw_e22 {post : St2 → Prop} {x : Int32} {f0 f1 f2 f3 : Int32} {a1 a2 a3 a4 a5 a6 a7 a8 a9 : Nat → Int32} {v s : Nat} (hv : v < 8) (hs : s < 32) (H : ∀ b2 b3 : Nat → Int32, post (f0, f1, f2, f3, a1, b2, b3, a4, a5, a6, a7, a8, a9)) :
    ∃ n, wX_enter_22 post (nI s) x (nI (32 * v)) f0 f1 f2 f3 n 0 a1 a2 a3 a4 a5 a6 a7 a8 a9 :=
  pk_loop (fun n i u => wX_enter_22 post (nI s) x (nI (32 * v)) f0 f1 f2 f3 n (nI i) a1 u a3 a4 a5 a6 a7 a8 a9) (fun _ _ => True) s 0 a2 (by omega) trivial
    (fun n u _ => pk_le s s (fun _ => nm_r (nI_1 s) (vw_e77 hv (by omega) (fun b3 => H u b3))) (fun z => absurd z (by omega)))
    (fun n i u hi _ hw => pk_le s i (fun z => absurd z (by omega)) (fun _ => ⟨pk_in (32 * v + i) 256 (by omega) (nI_add _ _), br_c
      (fun _ => ⟨pk_in (32 * v + i) 256 (by omega) (nI_add _ _), pk_in (32 * v + i) 256 (by omega) (nI_add _ _), nm_e (nm_r (nI_1 i) (hw _ trivial))⟩)
      (fun _ => ⟨pk_in (32 * v + i) 256 (by omega) (nI_add _ _), nm_e (nm_r (nI_1 i) (hw _ trivial))⟩)⟩))
theorem vw_enter {post : St2 → Prop} {f0 f1 f2 f3 : Int32} {a1 a2 a3 a4 a5 a6 a7 a8 a9 : Nat → Int32} {p q r : Int32} {v s t : Nat} (e0 : p = nI v) (e1 : q = nI s) (e2 : r = nI t) (hv : v < 8) (hs : s < 32) (ht : t < 32)
    (H : ∀ b2 b3 b4 : Nat → Int32, post (f0, f1, f2, f3, a1, b2, b3, b4, a5, a6, a7, a8, a9)) : wpX_enter post (f0, f1, f2, f3, a1, a2, a3, a4, a5, a6, a7, a8, a9) p q r := by
  subst e0 e1 e2
  exact nm_r (pk_mul 32 v) ⟨pk_in (32 * v + t) 256 (by omega) (nI_add _ _), pk_in (32 * v + t) 256 (by omega) (nI_add _ _), nm_e (vw_e22 hv hs (fun b2 b3 => H b2 b3 _))⟩
end
section
/-! vote, on a new object -/
theorem vw_vote {post : Int32 → St2 → Prop} {a1 a2 a3 a4 a5 a6 a7 a8 a9 : Nat → Int32} {p q r : Int32} (h2 : ∀ j, j < 256 → a2 j = 32) (h3 : ∀ j, j < 256 → a3 j = -1) (h4 : ∀ j, a4 j = 0)
    (H1 : vw_ok p q r → ∀ b2 b3 b4 : Nat → Int32, post 0 (0, 1, 1, 0, a1, b2, b3, b4, upd a5 p.toNatClampNeg (a5 p.toNatClampNeg + 1), upd a6 0 q, upd a7 0 r, upd (upd a8 0 0) 0 ((0 : Int32) ||| ((1 : Int32) <<< (p &&& 31))), a9))
    (H0 : ¬ vw_ok p q r → post (-1) (0, 0, 0, 0, a1, a2, a3, a4, a5, a6, a7, a8, a9)) : wpX_vote post (0, 0, 0, 0, a1, a2, a3, a4, a5, a6, a7, a8, a9) p q r := by
  unfold wpX_vote
  dsimp only
  refine vw_val (fun hv => br_f (by decide) (vw_chk (fun hq => br_f (by decide) (vw_chk (fun hr => br_f (by decide) (br_c (fun hl => vw_link0 (br_t (by decide) ?_)) (fun hn => H0 (fun h => hn h.2.2.2)))) (fun hn => br_t rfl (H0 (fun h => hn h.2.2.1))))) (fun hn => br_t rfl (H0 (fun h => hn h.2.1))))) (fun hn => br_t rfl (H0 (fun h => hn h.1)))
  have ok : vw_ok p q r := ⟨hv, hq, hr, hl⟩
  obtain ⟨v, lv, ev⟩ := vw_vN hv
  obtain ⟨s, ls, es⟩ := vw_cN hq
  obtain ⟨t, lt, et⟩ := vw_cN hr
  have es' : q >>> ((2 : Int32) &&& 31) = nI (s / 4) := by rw [es]; exact vw_sh ls
  have et' : r >>> ((2 : Int32) &&& 31) = nI (t / 4) := by rw [et]; exact vw_sh lt
  refine br_t rfl (br_t (by decide) (vw_judge ev es' et' lv (by omega) (by omega) h2 h3 h4 (br_t rfl ?_)))
  refine vw_enter ev es' et' lv (by omega) (by omega) (fun b2 b3 b4 => br_f (by decide) (vw_opl ?_))
  refine ⟨pk_in 0 64 (by omega), pk_in 0 64 (by omega), nm_r (by rw [sb_cl0, pk_us]) (nm_r (e' := 1) (by decide) ⟨pk_in v 8 lv ev, pk_in v 8 lv ev, nm_e ?_⟩)⟩
  exact H1 ok b2 b3 b4
/-! stake -/
def vw_k (x : Int32) : Int32 := if 0 ≤ x then (if x ≤ 100 then x else 100) else 0
theorem vw_stake {post : Int32 → St2 → Prop} {f0 f1 f2 f3 : Int32} {a1 a2 a3 a4 a5 a6 a7 a8 a9 : Nat → Int32} {p x : Int32}
    (H1 : vw_v p → post (a1 p.toNatClampNeg) (f0, f1, f2, 0, upd a1 p.toNatClampNeg (vw_k x), a2, a3, a4, a5, a6, a7, a8, a9))
    (H0 : ¬ vw_v p → post (-1) (f0, f1, f2, f3, a1, a2, a3, a4, a5, a6, a7, a8, a9)) : wpX_stake post (f0, f1, f2, f3, a1, a2, a3, a4, a5, a6, a7, a8, a9) p x := by
  unfold wpX_stake
  dsimp only
  refine vw_val (fun hv => br_f (by decide) ?_) (fun hn => br_t rfl (H0 hn))
  obtain ⟨v, lv, ev⟩ := vw_vN hv
  have hi : vp_in p 8 := pk_in v 8 lv ev
  have h := H1 hv
  refine ⟨hi, nm_e (br_c (fun c => br_c (fun d => ⟨hi, nm_e ?_⟩) (fun d => ⟨hi, nm_e ?_⟩)) (fun c => ⟨hi, nm_e ?_⟩))⟩
  · rw [show vw_k x = x by unfold vw_k; rw [if_pos c, if_pos d]] at h
    exact h
  · rw [show vw_k x = 100 by unfold vw_k; rw [if_pos c, if_neg d]] at h
    exact h
  · rw [show vw_k x = 0 by unfold vw_k; rw [if_neg c]] at h
    exact h
/-! sums of stakes -/
def vw_b (m : Int32) (n : Nat) : Int32 := (m.toUInt32 >>> ((nI n).toUInt32 &&& Int32.toUInt32 31)).toInt32 &&& 1
def vw_sum (m : Int32) (a : Nat → Int32) : Nat → Int32
  | 0 => 0
  | n + 1 => vw_sum m a n + (if vw_b m n = 0 then 0 else a n)
theorem vw_stakes {post : Int32 → Prop} {f0 f1 f2 f3 : Int32} {a1 a2 a3 a4 a5 a6 a7 a8 a9 : Nat → Int32} {m : Int32} (H : post (vw_sum m a1 8)) : wpX_stakes post (f0, f1, f2, f3, a1, a2, a3, a4, a5, a6, a7, a8, a9) m :=
  pk_loop (fun n i s => wX_stakes_4 post m f0 f1 f2 f3 a1 a2 a3 a4 a5 a6 a7 a8 a9 n s (nI i)) (fun i s => s = vw_sum m a1 i) 8 0 0 (by omega) rfl
    (fun n s h => pk_le 8 8 (fun _ => by rw [h]; exact H) (fun z => absurd z (by omega)))
    (fun n i s hi h hw => pk_le 8 i (fun z => absurd z (by omega)) (fun _ => br_c
      (fun c => nm_e (nm_r (nI_1 i) (hw _ (by rw [h]; show _ = vw_sum m a1 i + (if vw_b m i = 0 then 0 else a1 i); rw [if_pos (show vw_b m i = 0 from c)]))))
      (fun c => ⟨pk_in i 8 hi, nm_e (nm_r (nI_1 i) (hw _ (by rw [h, nI_clamp (by omega)]; show _ = vw_sum m a1 i + (if vw_b m i = 0 then 0 else a1 i); rw [if_neg (show ¬ vw_b m i = 0 from c)])))⟩)))
theorem vw_bits : ∀ v, v < 8 → ∀ j, j < 8 → (vw_b ((0 : Int32) ||| ((1 : Int32) <<< (nI v &&& 31))) j = 0 ↔ j ≠ v) := by decide +kernel
theorem vw_b255 : ∀ j, j < 8 → ¬ vw_b 255 j = 0 := by decide +kernel
/-- one voter of stake k, all others of stake 1 -/
def vw_one (a : Nat → Int32) (v : Nat) (k : Int32) : Prop := a v = k ∧ ∀ j, j < 8 → j ≠ v → a j = 1
theorem vw_sum1 {a : Nat → Int32} {v : Nat} {k : Int32} (hv : v < 8) (h : vw_one a v k) : vw_sum ((0 : Int32) ||| ((1 : Int32) <<< (nI v &&& 31))) a 8 = k := by
  have key : ∀ n, n ≤ 8 → vw_sum ((0 : Int32) ||| ((1 : Int32) <<< (nI v &&& 31))) a n = if v < n then k else 0 := by
    intro n
    induction n with
    | zero => intro _; rfl
    | succ n ih =>
      intro hn
      show vw_sum ((0 : Int32) ||| ((1 : Int32) <<< (nI v &&& 31))) a n + (if vw_b ((0 : Int32) ||| ((1 : Int32) <<< (nI v &&& 31))) n = 0 then 0 else a n) = _
      rw [ih (by omega)]
      by_cases e : n = v
      · rw [if_neg (fun z => (vw_bits v hv n (by omega)).mp z e), if_neg (by omega), if_pos (by omega), e, h.1]
        exact Int32.zero_add k
      · rw [if_pos ((vw_bits v hv n (by omega)).mpr e)]
        by_cases g : v < n
        · rw [if_pos g, if_pos (by omega)]
          exact Int32.add_zero k
        · rw [if_neg g, if_neg (by omega)]
          rfl
  rw [key 8 (by omega), if_pos hv]
theorem vw_sumA {a : Nat → Int32} {v : Nat} {k : Int32} (hv : v < 8) (h : vw_one a v k) : vw_sum 255 a 8 = k + 7 := by
  have key : ∀ n, n ≤ 8 → vw_sum 255 a n = if v < n then k + nI (n - 1) else nI n := by
    intro n
    induction n with
    | zero => intro _; rfl
    | succ n ih =>
      intro hn
      show vw_sum 255 a n + (if vw_b 255 n = 0 then 0 else a n) = _
      rw [ih (by omega), if_neg (vw_b255 n (by omega))]
      by_cases e : n = v
      · rw [if_neg (by omega), if_pos (by omega), e, h.1, Int32.add_comm]
        rfl
      · rw [h.2 n (by omega) e]
        by_cases g : v < n
        · rw [if_pos g, if_pos (by omega), Int32.add_assoc, nI_1, show n - 1 + 1 = n + 1 - 1 by omega]
        · rw [if_neg g, if_neg (by omega), nI_1]
  rw [key 8 (by omega), if_pos hv]
  rfl
/-! support, votes, isSupported -/
theorem vw_sup0 {post : Int32 → Prop} {f0 f1 f3 : Int32} {a1 a2 a3 a4 a5 a6 a7 a8 a9 : Nat → Int32} {p q : Int32} (H : post 0) : wpX_support post (f0, f1, 0, f3, a1, a2, a3, a4, a5, a6, a7, a8, a9) p q := by
  unfold wpX_support
  dsimp only
  exact vw_link0 (br_f (by decide) H)
theorem vw_sup1 {post : Int32 → Prop} {f0 f1 f3 : Int32} {a1 a2 a3 a4 a5 a6 a7 a8 a9 : Nat → Int32} {p q : Int32} (h6 : a6 0 = p) (h7 : a7 0 = q) (H : post (vw_sum (a8 0) a1 8)) : wpX_support post (f0, f1, 1, f3, a1, a2, a3, a4, a5, a6, a7, a8, a9) p q := by
  unfold wpX_support
  dsimp only
  refine vw_link1 h6 h7 (br_t (by decide) ⟨pk_in 0 64 (by omega), vw_stakes ?_⟩)
  rw [sb_cl0]
  exact H
theorem vw_votes {post : Int32 → Prop} {f0 f1 f2 f3 : Int32} {a1 a2 a3 a4 a5 a6 a7 a8 a9 : Nat → Int32} {p : Int32} (H1 : vw_v p → post (a5 p.toNatClampNeg)) (H0 : ¬ vw_v p → post (-1)) : wpX_votes post (f0, f1, f2, f3, a1, a2, a3, a4, a5, a6, a7, a8, a9) p := by
  unfold wpX_votes
  dsimp only
  refine vw_val (fun hv => br_f (by decide) ?_) (fun hn => br_t rfl (H0 hn))
  obtain ⟨v, lv, ev⟩ := vw_vN hv
  exact ⟨pk_in v 8 lv ev, H1 hv⟩
theorem vw_isup {post : Int32 → Prop} {f0 f1 f2 f3 : Int32} {a1 a2 a3 a4 a5 a6 a7 a8 a9 : Nat → Int32}
    (H0 : 3 * vw_sum (a8 0) a1 8 ≤ 2 * vw_sum 255 a1 8 → post 0) (H1 : ¬ 3 * vw_sum (a8 0) a1 8 ≤ 2 * vw_sum 255 a1 8 → post 1) : wpX_isSupported post (f0, f1, f2, f3, a1, a2, a3, a4, a5, a6, a7, a8, a9) 0 := by
  unfold wpX_isSupported
  dsimp only
  refine vw_stakes ⟨pk_in 0 64 (by omega), vw_stakes ?_⟩
  rw [sb_cl0]
  exact br_c H0 H1
end
section
/-! justifyAll, justified -/
theorem vw_j15 {post : St2 → Prop} {f0 f1 f2 f3 : Int32} {a1 a2 a3 a4 a5 a6 a7 a8 a9 : Nat → Int32}
    (H : ∀ b9 : Nat → Int32, (∀ j, j < 128 → b9 j = if j = 0 then 1 else 0) → ∃ n, wX_justifyAll_45 post f0 f1 f2 f3 n 0 a1 a2 a3 a4 a5 a6 a7 a8 b9) :
    ∃ n, wX_justifyAll_15 post f0 f1 f2 f3 n 0 a1 a2 a3 a4 a5 a6 a7 a8 a9 :=
  pk_loop (fun n i s => wX_justifyAll_15 post f0 f1 f2 f3 n (nI i) a1 a2 a3 a4 a5 a6 a7 a8 s) (fun i s => ∀ j, j < i → s j = if j = 0 then 1 else 0) 128 0 a9 (by omega)
    (fun j hj => absurd hj (by omega))
    (fun n s h => pk_le 128 128 (fun _ => H s h) (fun z => absurd z (by omega)))
    (fun n i s hi h hw => pk_le 128 i (fun z => absurd z (by omega)) (fun _ => pk_eq i 0
      (fun c => ⟨pk_in i 128 hi, nm_e (nm_r (nI_1 i) (hw _ (fun j hj => by
        rw [nI_clamp (by omega)]
        by_cases e : j = i
        · rw [e, pk_us, if_pos c]
        · rw [pk_un e]
          exact h j (by omega))))⟩)
      (fun c => ⟨pk_in i 128 hi, nm_e (nm_r (nI_1 i) (hw _ (fun j hj => by
        rw [nI_clamp (by omega)]
        by_cases e : j = i
        · rw [e, pk_us, if_neg c]
        · rw [pk_un e]
          exact h j (by omega))))⟩)))
theorem vw_ja0 {post : St2 → Prop} {f0 f1 : Int32} {a1 a2 a3 a4 a5 a6 a7 a8 a9 : Nat → Int32}
    (H : ∀ b9 : Nat → Int32, (∀ j, j < 128 → b9 j = if j = 0 then 1 else 0) → post (f0, f1, 0, 1, a1, a2, a3, a4, a5, a6, a7, a8, b9)) : wpX_justifyAll post (f0, f1, 0, 0, a1, a2, a3, a4, a5, a6, a7, a8, a9) :=
  br_t rfl (vw_j15 (fun b9 h9 => ⟨1, br_t (by decide) (H b9 h9)⟩))
theorem vw_ja1 {post : St2 → Prop} {f0 f1 : Int32} {a1 a2 a3 a4 a5 a6 a7 a8 a9 : Nat → Int32} {s t : Nat} (hs : s < 127) (ht : t < 127) (h6 : a6 0 = nI s) (h7 : a7 0 = nI t)
    (H : ∀ b9 : Nat → Int32, (∀ j, j < 128 → b9 j = if j = 0 ∨ (j = t ∧ s = 0 ∧ ¬ 3 * vw_sum (a8 0) a1 8 ≤ 2 * vw_sum 255 a1 8) then 1 else 0) → post (f0, f1, 1, 1, a1, a2, a3, a4, a5, a6, a7, a8, b9)) : wpX_justifyAll post (f0, f1, 1, 0, a1, a2, a3, a4, a5, a6, a7, a8, a9) := by
  refine br_t rfl (vw_j15 (fun b9 h9 => ⟨2, br_f (by decide) ⟨pk_in 0 64 (by omega), ?_⟩⟩))
  rw [sb_cl0, h6, h7, nI_clamp (by omega), nI_clamp (by omega)]
  refine ⟨pk_in s 128 (by omega), ?_⟩
  by_cases e : s = 0
  · refine br_f (by rw [h9 s (by omega), if_pos e]; decide) (vw_isup (fun c => br_t rfl (nm_r (e' := 1) (by decide) (br_t (by decide) (H b9 (fun j hj => ?_))))) (fun c => br_f (by decide) ⟨pk_in 0 64 (by omega), pk_in t 128 (by omega), nm_e (nm_r (e' := 1) (by decide) (br_t (by decide) (H _ (fun j hj => ?_))))⟩))
    · rw [h9 j hj]
      by_cases g : j = 0
      · rw [if_pos g, if_pos (Or.inl g)]
      · rw [if_neg g, if_neg (fun z => z.elim g (fun y => y.2.2 c))]
    · by_cases g : j = t
      · rw [g, pk_us, if_pos (Or.inr ⟨rfl, e, c⟩)]
      · rw [pk_un g, h9 j hj]
        by_cases k : j = 0
        · rw [if_pos k, if_pos (Or.inl k)]
        · rw [if_neg k, if_neg (fun z => z.elim k (fun y => g y.1))]
  · refine br_t (by rw [h9 s (by omega), if_neg e]) (nm_r (e' := 1) (by decide) (br_t (by decide) (H b9 (fun j hj => ?_))))
    rw [h9 j hj]
    by_cases g : j = 0
    · rw [if_pos g, if_pos (Or.inl g)]
    · rw [if_neg g, if_neg (fun z => z.elim g (fun y => e y.2.1))]
theorem vw_just0 {post : Int32 → St2 → Prop} {f0 f1 : Int32} {a1 a2 a3 a4 a5 a6 a7 a8 a9 : Nat → Int32} {p : Int32}
    (Hn : ¬ vw_c p → ∀ u, post (-1) u) (H1 : vw_c p → p = 0 → ∀ u, post 1 u) (H0 : vw_c p → ¬ p = 0 → ∀ u, post 0 u) : wpX_justified post (f0, f1, 0, 0, a1, a2, a3, a4, a5, a6, a7, a8, a9) p := by
  unfold wpX_justified
  dsimp only
  refine vw_chk (fun hc => br_f (by decide) (vw_ja0 (fun b9 h9 => ?_))) (fun hn => br_t rfl (Hn hn _))
  obtain ⟨c, lc, ec⟩ := vw_cN hc
  refine ⟨pk_in c 128 (by omega) ec, ?_⟩
  dsimp only
  rw [pk_cl c ec, h9 c (by omega)]
  by_cases e : c = 0
  · rw [if_pos e]
    exact br_f (by decide) (H1 hc (by rw [ec, e]; rfl) _)
  · rw [if_neg e]
    exact br_t rfl (H0 hc (by rw [ec]; exact nI_ne0 (by omega) (by omega)) _)
theorem vw_just1 {post : Int32 → St2 → Prop} {f0 f1 : Int32} {a1 a2 a3 a4 a5 a6 a7 a8 a9 : Nat → Int32} {p q : Int32} (hq : vw_c q) (hc : vw_c p) (hp : ¬ p = 0) (h6 : a6 0 = q) (h7 : a7 0 = p)
    (H1 : q = 0 → ¬ 3 * vw_sum (a8 0) a1 8 ≤ 2 * vw_sum 255 a1 8 → ∀ u, post 1 u) (H0 : ¬ (q = 0 ∧ ¬ 3 * vw_sum (a8 0) a1 8 ≤ 2 * vw_sum 255 a1 8) → ∀ u, post 0 u) : wpX_justified post (f0, f1, 1, 0, a1, a2, a3, a4, a5, a6, a7, a8, a9) p := by
  obtain ⟨c, lc, ec⟩ := vw_cN hc
  obtain ⟨s, ls, es⟩ := vw_cN hq
  have hc0 : ¬ c = 0 := fun z => hp (by rw [ec, z]; rfl)
  unfold wpX_justified
  dsimp only
  refine vw_chk (fun _ => br_f (by decide) (vw_ja1 ls lc (by rw [h6, es]) (by rw [h7, ec]) (fun b9 h9 => ?_))) (fun hn => absurd hc hn)
  refine ⟨pk_in c 128 (by omega) ec, ?_⟩
  dsimp only
  rw [pk_cl c ec, h9 c (by omega)]
  by_cases e : s = 0 ∧ ¬ 3 * vw_sum (a8 0) a1 8 ≤ 2 * vw_sum 255 a1 8
  · rw [if_pos (Or.inr ⟨rfl, e⟩)]
    exact br_f (by decide) (H1 (by rw [es, e.1]; rfl) e.2 _)
  · rw [if_neg (fun z => z.elim hc0 (fun y => e y.2))]
    refine br_t rfl (H0 (fun z => e ⟨?_, z.2⟩) _)
    have h := z.1
    rw [es] at h
    exact Decidable.byContradiction (fun y => nI_ne0 (by omega) (by omega) h)
end
section
/-! the law, from its end -/
theorem vw_pos {p q r : Int32} (h : vw_ok p q r) : ¬ r = 0 := by
  intro e
  obtain ⟨s, ls, es⟩ := vw_cN h.2.1
  have hl := h.2.2.2
  rw [e, es, vw_sh ls, show (0 : Int32) >>> ((2 : Int32) &&& 31) = nI 0 by decide] at hl
  exact absurd hl (nI_nlt (by omega) (by omega))
theorem vw_L270 {post : Int32 → St0 → Prop} (H : post 1 ()) {mc ms kc ks : Nat} {z : Int32} : wL_lawOf_270 post mc ms z z kc ks := br_t rfl H
/-- a vote that wasn't taken -/
theorem vw_A {post : Int32 → St0 → Prop} (H : post 1 ()) {mc ms kc ks : Nat} {x0 x1 x2 x5 x7 x8 k f0 f1 : Int32} {a1 a2 a3 a4 a5 a6 a7 a8 a9 : Nat → Int32}
    (h5 : vw_f (vw_v x0) x5) (h7 : vw_f (vw_c x2) x7) (h8 : x8 = 0) (ha5 : ∀ j, a5 j = 0) :
    wL_lawOf_170 post mc ms x0 x1 x2 x5 x7 x8 k kc ks f0 f1 0 0 a1 a2 a3 a4 a5 a6 a7 a8 a9 := by
  have J : ∀ z : Int32, wL_lawOf_218 post mc ms x1 x2 x7 x8 k z z kc ks f0 f1 0 0 a1 a2 a3 a4 a5 a6 a7 a8 a9 := fun z => br_t rfl (vw_just0
    (fun hn u => br_t (vw_ff h7 hn) (vw_L270 H))
    (fun hc e u => br_f (vw_fn h7 hc) (br_t e (vw_L270 H)))
    (fun hc e u => br_f (vw_fn h7 hc) (br_f e (br_t h8 (vw_L270 H)))))
  refine vw_sup0 (br_t h8 (br_t rfl (vw_votes (fun hv => br_f (vw_fn h5 hv) (br_t h8 ?_)) (fun hn => br_t (vw_ff h5 hn) (J _)))))
  rw [ha5]
  exact J 0
/-- a vote that was taken -/
theorem vw_B {post : Int32 → St0 → Prop} (H : post 1 ()) {mc ms kc ks : Nat} {x0 x1 x2 x5 x7 x8 k f0 f1 : Int32} {a1 a2 a3 a4 a5 a6 a7 a8 a9 : Nat → Int32} {v : Nat}
    (ok : vw_ok x0 x1 x2) (h5 : vw_f (vw_v x0) x5) (h7 : vw_f (vw_c x2) x7) (h8 : x8 = 1) (hv : v < 8) (ha1 : vw_one a1 v k) (ha5 : a5 x0.toNatClampNeg = 1)
    (ha6 : a6 0 = x1) (ha7 : a7 0 = x2) (ha8 : a8 0 = (0 : Int32) ||| ((1 : Int32) <<< (nI v &&& 31))) :
    wL_lawOf_170 post mc ms x0 x1 x2 x5 x7 x8 k kc ks f0 f1 1 0 a1 a2 a3 a4 a5 a6 a7 a8 a9 := by
  have n8 : ¬ x8 = 0 := by rw [h8]; decide
  have s1 : vw_sum (a8 0) a1 8 = k := by rw [ha8]; exact vw_sum1 hv ha1
  have s2 : vw_sum 255 a1 8 = k + 7 := vw_sumA hv ha1
  have J : wL_lawOf_218 post mc ms x1 x2 x7 x8 k 1 1 kc ks f0 f1 1 0 a1 a2 a3 a4 a5 a6 a7 a8 a9 := by
    refine br_t rfl (vw_just1 ok.2.1 ok.2.2.1 (vw_pos ok) ha6 ha7 (fun e c u => ?_) (fun c u => ?_))
    · rw [s1, s2] at c
      exact br_f (vw_fn h7 ok.2.2.1) (br_f (vw_pos ok) (br_f n8 (br_t e (br_f c (vw_L270 H)))))
    · rw [s1, s2] at c
      exact br_f (vw_fn h7 ok.2.2.1) (br_f (vw_pos ok) (br_f n8 (br_c (fun e => br_t (Decidable.byContradiction (fun d => c ⟨e, d⟩)) (vw_L270 H)) (fun _ => vw_L270 H))))
  refine vw_sup1 ha6 ha7 ?_
  rw [s1]
  refine br_f n8 (br_t rfl (vw_votes (fun _ => br_f (vw_fn h5 ok.1) (br_f n8 ?_)) (fun hn => absurd ok.1 hn)))
  rw [ha5]
  exact J
theorem vw_L145 {post : Int32 → St0 → Prop} {mc ms kc ks : Nat} {x0 x1 x2 x3 x5 x7 x8 z0 z1 f0 f1 f2 f3 : Int32} {a1 a2 a3 a4 a5 a6 a7 a8 a9 : Nat → Int32} (e : z1 = z0)
    (h : wL_lawOf_170 post mc ms x0 x1 x2 x5 x7 x8 (vw_k x3) kc ks f0 f1 f2 f3 a1 a2 a3 a4 a5 a6 a7 a8 a9) : wL_lawOf_145 post mc ms x0 x1 x2 x3 x5 x7 x8 z0 z1 kc ks f0 f1 f2 f3 a1 a2 a3 a4 a5 a6 a7 a8 a9 := by
  refine br_t e (br_c (fun c => br_c (fun d => ?_) (fun d => ?_)) (fun c => ?_))
  · rw [show vw_k x3 = x3 by unfold vw_k; rw [if_pos c, if_pos d]] at h
    exact h
  · rw [show vw_k x3 = 100 by unfold vw_k; rw [if_pos c, if_neg d]] at h
    exact h
  · rw [show vw_k x3 = 0 by unfold vw_k; rw [if_neg c]] at h
    exact h
theorem vw_L103 {post : Int32 → St0 → Prop} (H : post 1 ()) {mc ms kc ks : Nat} {x0 x1 x2 x3 x5 x7 z0 : Int32} {a1 a2 a3 : Nat → Int32}
    (h1 : ∀ j, j < 8 → a1 j = 1) (h2 : ∀ j, j < 256 → a2 j = 32) (h3 : ∀ j, j < 256 → a3 j = -1)
    (h5 : vw_f (vw_v x0) x5) (h7 : vw_f (vw_c x2) x7) (h8 : vw_f (vw_ok x0 x1 x2) z0) :
    wL_lawOf_103 post mc ms x0 x1 x2 x3 x5 x7 z0 kc ks 0 0 0 0 a1 a2 a3 (fun _ => 0) (fun _ => 0) (fun _ => 0) (fun _ => 0) (fun _ => 0) (fun _ => 0) := by
  refine vw_vote h2 h3 (fun _ => rfl) (fun ok b2 b3 b4 => ?_) (fun nok => ?_)
  · obtain ⟨v, lv, ev⟩ := vw_vN ok.1
    have cl : x0.toNatClampNeg = v := pk_cl v ev
    refine br_f (vw_fn h8 ok) (br_t rfl (vw_stake (fun hv => br_f (vw_fn h5 hv) (vw_L145 ?_ ?_)) (fun hn => absurd ok.1 hn)))
    · rw [cl]
      exact h1 v lv
    · refine vw_B H ok h5 h7 (vw_ft h8 ok) lv ⟨?_, fun j hj hn => ?_⟩ ?_ pk_us pk_us ?_
      · rw [cl, pk_us]
      · rw [cl, pk_un hn]
        exact h1 j hj
      · exact pk_us.trans (show (0 : Int32) + 1 = 1 by decide)
      · rw [pk_us, ev]
  · refine br_t (vw_ff h8 nok) (br_t rfl (vw_stake (fun hv => br_f (vw_fn h5 hv) (vw_L145 ?_ ?_)) (fun hn => br_t (vw_ff h5 hn) (vw_L145 rfl ?_))))
    · obtain ⟨v, lv, ev⟩ := vw_vN hv
      rw [pk_cl v ev]
      exact h1 v lv
    · exact vw_A H h5 h7 (vw_ff h8 nok) (fun _ => rfl)
    · exact vw_A H h5 h7 (vw_ff h8 nok) (fun _ => rfl)
theorem vw_L72 {post : Int32 → St0 → Prop} (H : post 1 ()) {mc ms kc ks : Nat} {x0 x1 x2 x3 x5 x6 z0 : Int32} {a1 a2 a3 : Nat → Int32}
    (h1 : ∀ j, j < 8 → a1 j = 1) (h2 : ∀ j, j < 256 → a2 j = 32) (h3 : ∀ j, j < 256 → a3 j = -1)
    (h5 : vw_f (vw_v x0) x5) (h6 : vw_f (vw_c x1) x6) (h7 : vw_f (vw_c x2) z0) :
    wL_lawOf_72 post mc ms x0 x1 x2 x3 x5 x6 z0 kc ks 0 0 0 0 a1 a2 a3 (fun _ => 0) (fun _ => 0) (fun _ => 0) (fun _ => 0) (fun _ => 0) (fun _ => 0) := by
  have N : ¬ vw_ok x0 x1 x2 → wL_lawOf_102 post mc ms x0 x1 x2 x3 x5 z0 kc ks 0 0 0 0 a1 a2 a3 (fun _ => 0) (fun _ => 0) (fun _ => 0) (fun _ => 0) (fun _ => 0) (fun _ => 0) :=
    fun hn => vw_L103 H h1 h2 h3 h5 h7 (Or.inr ⟨hn, rfl⟩)
  refine br_c (fun z => N (fun h => vw_fn h5 h.1 z)) (fun z => br_c (fun y => N (fun h => vw_fn h6 h.2.1 y)) (fun y => br_c (fun x => N (fun h => vw_fn h7 h.2.2.1 x)) (fun x => br_c (fun w => N (fun h => Int32.not_le.mpr h.2.2.2 w)) (fun w => ?_))))
  exact vw_L103 H h1 h2 h3 h5 h7 (Or.inl ⟨⟨h5.elim (fun t => t.1) (fun t => absurd t.2 z), h6.elim (fun t => t.1) (fun t => absurd t.2 y), h7.elim (fun t => t.1) (fun t => absurd t.2 x), Int32.not_le.mp w⟩, rfl⟩)
theorem vw_L48 {post : Int32 → St0 → Prop} (H : post 1 ()) {mc ms kc ks : Nat} {x0 x1 x2 x3 x5 z0 : Int32} {a1 a2 a3 : Nat → Int32}
    (h1 : ∀ j, j < 8 → a1 j = 1) (h2 : ∀ j, j < 256 → a2 j = 32) (h3 : ∀ j, j < 256 → a3 j = -1)
    (h5 : vw_f (vw_v x0) x5) (h6 : vw_f (vw_c x1) z0) :
    wL_lawOf_48 post mc ms x0 x1 x2 x3 x5 z0 kc ks 0 0 0 0 a1 a2 a3 (fun _ => 0) (fun _ => 0) (fun _ => 0) (fun _ => 0) (fun _ => 0) (fun _ => 0) := by
  have N : ¬ vw_c x2 → wL_lawOf_71 post mc ms x0 x1 x2 x3 x5 z0 kc ks 0 0 0 0 a1 a2 a3 (fun _ => 0) (fun _ => 0) (fun _ => 0) (fun _ => 0) (fun _ => 0) (fun _ => 0) :=
    fun hn => vw_L72 H h1 h2 h3 h5 h6 (Or.inr ⟨hn, rfl⟩)
  exact br_c (fun z => N (fun h => h.1 z)) (fun z => br_c (fun y => N (fun h => h.2.1 y)) (fun y => br_c (fun x => N (fun h => h.2.2 x)) (fun x => vw_L72 H h1 h2 h3 h5 h6 (Or.inl ⟨⟨z, y, x⟩, rfl⟩))))
theorem vw_L24 {post : Int32 → St0 → Prop} (H : post 1 ()) {mc ms kc ks : Nat} {x0 x1 x2 x3 z0 : Int32} {a1 a2 a3 : Nat → Int32}
    (h1 : ∀ j, j < 8 → a1 j = 1) (h2 : ∀ j, j < 256 → a2 j = 32) (h3 : ∀ j, j < 256 → a3 j = -1)
    (h5 : vw_f (vw_v x0) z0) :
    wL_lawOf_24 post mc ms x0 x1 x2 x3 z0 kc ks 0 0 0 0 a1 a2 a3 (fun _ => 0) (fun _ => 0) (fun _ => 0) (fun _ => 0) (fun _ => 0) (fun _ => 0) := by
  have N : ¬ vw_c x1 → wL_lawOf_47 post mc ms x0 x1 x2 x3 z0 kc ks 0 0 0 0 a1 a2 a3 (fun _ => 0) (fun _ => 0) (fun _ => 0) (fun _ => 0) (fun _ => 0) (fun _ => 0) :=
    fun hn => vw_L48 H h1 h2 h3 h5 (Or.inr ⟨hn, rfl⟩)
  exact br_c (fun z => N (fun h => h.1 z)) (fun z => br_c (fun y => N (fun h => h.2.1 y)) (fun y => br_c (fun x => N (fun h => h.2.2 x)) (fun x => vw_L48 H h1 h2 h3 h5 (Or.inl ⟨⟨z, y, x⟩, rfl⟩))))
theorem vw_lawOf {post : Int32 → St0 → Prop} (H : post 1 ()) (x0 x1 x2 x3 : Int32) : wpL_lawOf post 10 1117 () x0 x1 x2 x3 :=
  ⟨by decide, by decide, 9, 1104, by decide, by decide, vw_init (fun b1 b2 b3 h1 h2 h3 => br_c
    (fun z => vw_L24 H h1 h2 h3 (Or.inr ⟨fun h => h.1 z, rfl⟩))
    (fun z => br_c (fun y => vw_L24 H h1 h2 h3 (Or.inr ⟨fun h => h.2 y, rfl⟩)) (fun y => vw_L24 H h1 h2 h3 (Or.inl ⟨⟨z, y⟩, rfl⟩))))⟩
end
section
theorem vw_cell {post : Int32 → Prop} {L : Nat} {xs : Nat → Int32} {p : Int32} (i : Nat) (hp : p = nI i) (hi : i < 4) (hL : L ≤ 4) (H : ∀ r, post r) : wpL_cellAt post L xs () p := by
  subst hp
  exact pk_le L i (fun _ => H _) (fun h => ⟨pk_in i L h, H _⟩)
theorem i_vc (xs : Nat → Int32) (L : Nat) (hL : L ≤ 4) : wpL_law (fun r => r = 1) L xs :=
  vw_cell 0 rfl (by omega) hL (fun r1 => vw_cell 1 rfl (by omega) hL (fun r2 => vw_cell 2 rfl (by omega) hL (fun r3 => vw_cell 3 rfl (by omega) hL (fun r4 =>
    ⟨10, 1117, by decide, by decide, vw_lawOf (post := fun r _ => r = 1) rfl r1 r2 r3 r4⟩))))
end
