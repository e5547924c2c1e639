section
section
variable {m c p fk sk : Int32} {a1 a2 a3 a4 a5 a6 a7 : Nat → Int32}
/-- every bit of 0 is 0 -/
theorem tw_b0 (x : Int32) : ((0 : Int32) >>> (x &&& 31)) &&& 1 = 0 := by
  rw [Int32.zero_shiftRight, Int32.zero_and]
/-- of 1 the lowest bit alone is set -/
theorem tw_b1 : ∀ i, i < 7 → 0 < i → ((1 : Int32) >>> (nI i &&& 31)) &&& 1 = 0 := by decide +kernel
theorem tw_b10 : ¬ ((1 : Int32) >>> ((0 : Int32) &&& 31)) &&& 1 = 0 := by decide
/-- a deadline is its own byte -/
theorem tw_by : ∀ k, k < 9 → (nI k).toInt8.toInt32 = nI k := by decide +kernel
theorem tw_in0 : vp_in 0 7 := pk_in 0 7 (by omega)
theorem tw_fill {s : Nat → Int32} {i : Nat} {x : Int32} (hi : i < 7) (h : ∀ j, j < i → s j = 0) (hx : x = 0) : ∀ j, j < i + 1 → upd s (nI i).toNatClampNeg x j = 0 := by
  intro j hj
  rw [nI_clamp (by omega)]
  by_cases e : j = i
  · rw [e, pk_us, hx]
  · rw [pk_un e]
    exact h j (by omega)
theorem tw_put {s : Nat → Int32} {i : Nat} {x v : Int32} (hi : i < 7) (h : 0 < i → s 0 = v) (hx : i = 0 → x = v) : 0 < i + 1 → upd s (nI i).toNatClampNeg x 0 = v := by
  intro _
  rw [nI_clamp (by omega)]
  by_cases e : i = 0
  · rw [e, pk_us, hx e]
  · rw [pk_un (by omega)]
    exact h (by omega)
/-- the first free number of an empty planner is 0 -/
theorem tw_free {post : Int32 → Prop} (hc : ¬ c ≤ 0) (H : post 0) : wpX_freeNumber post (m, c, 0, fk, sk, a1, a2, a3, a4, a5, a6, a7) :=
  ⟨1, br_f hc (br_t (tw_b0 0) H)⟩
/-- askOwn(8): the deadline asked of task 0 is its own -/
theorem tw_ask {post : St2 → Prop} {k : Nat} (hk : k < 9) (h1 : a1 0 = nI k) (H : ∀ s : Nat → Int32, s 0 = nI k → post (m, c, p, fk, sk, a1, a2, a3, s, a5, a6, a7)) : wpX_askOwn post (m, c, p, fk, sk, a1, a2, a3, a4, a5, a6, a7) 8 := by
  have G : ∃ n, wX_askOwn_2 post 8 m c p fk sk n 0 a1 a2 a3 a4 a5 a6 a7 := by
    refine pk_loop (fun n i s => wX_askOwn_2 post 8 m c p fk sk n (nI i) a1 a2 a3 s a5 a6 a7) (fun i s => 0 < i → s 0 = nI k) 7 0 a4 (by omega) (fun h => absurd h (by omega))
      (fun n s h => pk_le 7 7 (fun _ => H s (h (by omega))) (fun z => absurd z (by omega)))
      (fun n i s hi h hw => pk_le 7 i (fun z => absurd z (by omega)) (fun _ => ⟨pk_in i 7 hi, br_c
        (fun g => ⟨pk_in i 7 hi, nm_e (nm_r (nI_1 i) (hw _ (tw_put hi h (fun e => ?_))))⟩)
        (fun g => ⟨pk_in i 7 hi, pk_in i 7 hi, nm_e (nm_r (nI_1 i) (hw _ (tw_put hi h (fun e => ?_))))⟩)⟩))
    · rw [e, nI_clamp (by omega), h1] at g
      have g8 : 8 ≤ k := (nI_leI (a := 8) (b := k) (by omega) (by omega)).mp g
      have e8 : k = 8 := by omega
      rw [e8]
      decide
    · rw [e, nI_clamp (by omega), h1, vp_nar_byte, tw_by k hk]
  exact G
/-- close(): without links nothing is below anything -/
theorem tw_close36 {post : St2 → Prop} {J : Int32 → (Nat → Int32) → (Nat → Int32) → (Nat → Int32) → (Nat → Int32) → (Nat → Int32) → (Nat → Int32) → (Nat → Int32) → Prop} {x : Int32} (h3 : ∀ j, j < 7 → a3 j = 0) (H : J (x + 1) a1 a2 a3 a4 a5 a6 a7) : ∃ n, wX_close_36 post J x m c p fk sk n 0 a1 a2 a3 a4 a5 a6 a7 :=
  pk_loop (σ := Unit) (fun n i _ => wX_close_36 post J x m c p fk sk n (nI i) a1 a2 a3 a4 a5 a6 a7) (fun _ _ => True) 7 0 () (by omega) trivial
    (fun n _ _ => pk_le 7 7 (fun _ => nm_e H) (fun z => absurd z (by omega)))
    (fun n i _ hi _ hw => pk_le 7 i (fun z => absurd z (by omega)) (fun _ => ⟨pk_in i 7 hi, br_t (by rw [nI_clamp (by omega), h3 i hi]; exact tw_b0 x) (nm_r (nI_1 i) (hw () trivial))⟩))
theorem tw_close28 {post : St2 → Prop} (h3 : ∀ j, j < 7 → a3 j = 0) (H : post (m, c, p, fk, sk, a1, a2, a3, a4, a5, a6, a7)) : ∃ n, wX_close_28 post m c p fk sk n 0 a1 a2 a3 a4 a5 a6 a7 :=
  pk_loop (σ := Unit) (fun n i _ => wX_close_28 post m c p fk sk n (nI i) a1 a2 a3 a4 a5 a6 a7) (fun _ _ => True) 7 0 () (by omega) trivial
    (fun n _ _ => pk_le 7 7 (fun _ => H) (fun z => absurd z (by omega)))
    (fun n i _ hi _ hw => pk_le 7 i (fun z => absurd z (by omega)) (fun _ => tw_close36 h3 (by rw [nI_1 i]; exact hw () trivial)))
theorem tw_close {post : St2 → Prop} (h2 : ∀ j, j < 7 → a2 j = 0) (H : ∀ s : Nat → Int32, (∀ j, j < 7 → s j = 0) → post (m, c, p, fk, sk, a1, a2, s, a4, a5, a6, a7)) : wpX_close post (m, c, p, fk, sk, a1, a2, a3, a4, a5, a6, a7) := by
  have G : ∃ n, wX_close_2 post m c p fk sk n 0 a1 a2 a3 a4 a5 a6 a7 :=
    pk_loop (fun n i s => wX_close_2 post m c p fk sk n (nI i) a1 a2 s a4 a5 a6 a7) (fun i s => ∀ j, j < i → s j = 0) 7 0 a3 (by omega) (fun j hj => absurd hj (by omega))
      (fun n s h => pk_le 7 7 (fun _ => tw_close28 h (H s h)) (fun z => absurd z (by omega)))
      (fun n i s hi h hw => pk_le 7 i (fun z => absurd z (by omega)) (fun _ => ⟨pk_in i 7 hi, pk_in i 7 hi, nm_e (nm_r (nI_1 i) (hw _ (tw_fill hi h (by rw [nI_clamp (by omega), h2 i hi]; decide))))⟩))
  exact G
/-- followersBy(0, d): none -/
theorem tw_foll {post : Int32 → Prop} {d : Int32} (h3 : a3 0 = 0) (H : post 0) : wpX_followersBy post (m, c, p, fk, sk, a1, a2, a3, a4, a5, a6, a7) 0 d := by
  have G : ∃ n, wX_followersBy_5 post 0 d m c p fk sk a1 a2 a3 a4 a5 a6 a7 n 0 0 :=
    pk_loop (σ := Unit) (fun n i _ => wX_followersBy_5 post 0 d m c p fk sk a1 a2 a3 a4 a5 a6 a7 n 0 (nI i)) (fun _ _ => True) 7 0 () (by omega) trivial
      (fun n _ _ => pk_le 7 7 (fun _ => H) (fun z => absurd z (by omega)))
      (fun n i _ hi _ hw => pk_le 7 i (fun z => absurd z (by omega)) (fun _ => ⟨tw_in0, br_t (by rw [sb_cl0, h3]; exact tw_b0 _) (nm_r (nI_1 i) (hw () trivial))⟩))
  exact G
/-- draw(0): the deadline asked, as it is -/
theorem tw_draw {post : St2 → Prop} {k : Nat} (hk : k < 9) (h3 : a3 0 = 0) (h4 : a4 0 = nI k) (H : post (m, c, p, fk, sk, a1, a2, a3, a4, upd a5 0 (nI k), a6, a7)) : wpX_draw post (m, c, p, fk, sk, a1, a2, a3, a4, a5, a6, a7) 0 := by
  have G : ∃ n, wX_draw_9 post 0 m c p fk sk a1 a2 a3 a4 a5 a6 a7 n (nI k) 1 :=
    pk_loop (σ := Unit) (fun n i _ => wX_draw_9 post 0 m c p fk sk a1 a2 a3 a4 a5 a6 a7 n (nI k) (nI i)) (fun _ _ => True) 9 1 () (by omega) trivial
      (fun n _ _ => pk_lt 8 9 (fun _ => ⟨tw_in0, nm_r (by rw [sb_cl0, tw_by k hk]) H⟩) (fun z => absurd z (by omega)))
      (fun n i _ hi _ hw => pk_lt 8 i (fun z => absurd z (by omega)) (fun _ => tw_foll h3 (br_c
        (fun _ => br_t (by decide) (nm_r (nI_1 i) (hw () trivial)))
        (fun _ => br_t (by decide) (nm_r (nI_1 i) (hw () trivial))))))
  exact ⟨tw_in0, nm_r (by rw [sb_cl0, h4]) G⟩
/-- withoutFollowersIn(1): task 0 -/
theorem tw_wof {post : Int32 → Prop} (h3 : a3 0 = 0) (H : post 0) : wpX_withoutFollowersIn post (m, c, p, fk, sk, a1, a2, a3, a4, a5, a6, a7) 1 :=
  ⟨1, br_f (by decide) (br_f tw_b10 ⟨tw_in0, br_t (by rw [sb_cl0, h3]; decide) H⟩)⟩
/-- readyIn(1): task 0 -/
theorem tw_ready {post : Int32 → Prop} (h2 : a2 0 = 0) (H : post 1) : wpX_readyIn post (m, c, p, fk, sk, a1, a2, a3, a4, a5, a6, a7) 1 := by
  have G : ∃ n, wX_readyIn_4 post 1 m c p fk sk a1 a2 a3 a4 a5 a6 a7 n 0 0 := by
    refine pk_loop (σ := Unit) (fun n i _ => wX_readyIn_4 post 1 m c p fk sk a1 a2 a3 a4 a5 a6 a7 n 0 (nI i)) (fun _ _ => True) 7 0 () (by omega) trivial
      (fun n _ _ => pk_le 7 7 (fun _ => ?_) (fun z => absurd z (by omega)))
      (fun n i _ hi _ hw => pk_le 7 i (fun z => absurd z (by omega)) (fun _ => ?_))
    · exact ek_v (P := post) (b := 1) (by decide) H
    · by_cases e : i = 0
      · refine br_f (by rw [e]; exact tw_b10) ⟨pk_in i 7 hi, nm_r (e' := 0) ?_ (nm_r (nI_1 i) (hw () trivial))⟩
        rw [e, nI_clamp (by omega), h2]
        decide
      · exact br_t (tw_b1 i hi (by omega)) (nm_r (nI_1 i) (hw () trivial))
  exact G
/-- mostUrgent(1): task 0 -/
theorem tw_most {post : Int32 → Prop} (H : post 0) : wpX_mostUrgent post (m, c, p, fk, sk, a1, a2, a3, a4, a5, a6, a7) 1 := by
  have G : ∃ n, wX_mostUrgent_4 post 1 m c p fk sk a1 a2 a3 a4 a5 a6 a7 n 0 1 :=
    pk_loop (σ := Unit) (fun n i _ => wX_mostUrgent_4 post 1 m c p fk sk a1 a2 a3 a4 a5 a6 a7 n 0 (nI i)) (fun i _ => 0 < i) 7 1 () (by omega) (by omega)
      (fun n _ _ => pk_le 7 7 (fun _ => H) (fun z => absurd z (by omega)))
      (fun n i _ hi h hw => pk_le 7 i (fun z => absurd z (by omega)) (fun _ => br_t (tw_b1 i hi h) (nm_r (nI_1 i) (hw () (by omega)))))
  obtain ⟨n, hn⟩ := G
  exact ⟨n + 1, br_f (by decide) (br_f tw_b10 (br_t (by decide) (nm_r (by decide) hn)))⟩
end
end
section
section
variable {m c p fk sk : Int32} {a1 a2 a3 a4 a5 a6 a7 : Nat → Int32}
/-- dispatch(), its inner loop in slot 0: task 0 goes first and none waits -/
theorem tw_disp26 {post : Int32 → Prop} {J : Int32 → Int32 → Prop} {k : Nat} (hk : k < 9) (h0 : 0 < k) (hm : ¬ m ≤ 0) (h5 : a5 0 = nI k) (H : J 0 1) : ∃ n, wX_dispatch_26 post J 0 m c p fk sk a1 a2 a3 a4 a5 a6 a7 n 1 1 0 :=
  ⟨2, br_f hm (br_f (by decide) (tw_most ⟨tw_in0, br_t (by rw [sb_cl0, h5]; exact nI_lt (a := 0) h0 (by omega)) (nm_r (e' := 0) (by decide) (nm_r (e' := 0) (by decide) (nm_r (e' := 1) (by decide) (br_c (fun _ => nm_r (e' := 1) (by decide) H) (fun _ => br_t rfl (nm_r (e' := 1) (by decide) H))))))⟩))⟩
theorem tw_disp {post : Int32 → Prop} {k : Nat} (hk : k < 9) (h0 : 0 < k) (hm : ¬ m ≤ 0) (h2 : a2 0 = 0) (h5 : a5 0 = nI k) (H : post 1) : wpX_dispatch post (m, c, 1, fk, sk, a1, a2, a3, a4, a5, a6, a7) :=
  ⟨2, br_f (by decide) (br_f (by decide) (tw_ready h2 (tw_disp26 hk h0 hm h5 (br_f (by decide) (br_t rfl (br_t rfl H))))))⟩
/-- good(), its second loop: task 0 keeps its deadline, then the timetable is good -/
theorem tw_good32 {post : Int32 → St2 → Prop} {k : Nat} (hk : k < 9) (h0 : 0 < k) (hm : ¬ m ≤ 0) (h2 : a2 0 = 0) (h3 : a3 0 = 0) (h4 : a4 0 = nI k) (H : post 1 (m, c, 1, fk, sk, a1, a2, a3, a4, upd a5 0 (nI k), a6, a7)) : ∃ n, wX_good_32 post n 1 0 m c 1 fk sk a1 a2 a3 a4 a5 a6 a7 :=
  ⟨2, br_f (by decide) (br_f (by decide) (tw_wof h3 (tw_draw hk h3 h4 ⟨tw_in0, br_t (by rw [sb_cl0, pk_us]; exact nI_le (a := 1) h0 (by omega)) (nm_r (e' := 0) (by decide) (nm_r (e' := 1) (by decide) (br_f (by decide) (br_t rfl (tw_disp hk h0 hm h2 pk_us ⟨rfl, H⟩)))))⟩)))⟩
theorem tw_good {post : Int32 → St2 → Prop} {k : Nat} (hk : k < 9) (h0 : 0 < k) (hm : ¬ m ≤ 0) (h2 : ∀ j, j < 7 → a2 j = 0) (h4 : a4 0 = nI k) (H : ∀ s t : Nat → Int32, post 1 (m, c, 1, fk, sk, a1, a2, s, a4, t, a6, a7)) : wpX_good post (m, c, 1, fk, sk, a1, a2, a3, a4, a5, a6, a7) := by
  refine tw_close h2 (fun s hs => ?_)
  have G : ∃ n, wX_good_6 post m c 1 fk sk n 0 a1 a2 s a4 a5 a6 a7 :=
    pk_loop (fun n i t => wX_good_6 post m c 1 fk sk n (nI i) a1 a2 s a4 t a6 a7) (fun _ _ => True) 7 0 a5 (by omega) trivial
      (fun n t _ => pk_le 7 7 (fun _ => tw_good32 hk h0 hm (h2 0 (by omega)) (hs 0 (by omega)) h4 (H s _)) (fun z => absurd z (by omega)))
      (fun n i t hi _ hw => pk_le 7 i (fun z => absurd z (by omega)) (fun _ => ⟨pk_in i 7 hi, nm_e (nm_r (nI_1 i) (hw _ trivial))⟩))
  exact G
/-- feasible() with task 0 alone, its deadline in 1..8: true -/
theorem tw_feas {post : Int32 → St2 → Prop} {k : Nat} (hk : k < 9) (h0 : 0 < k) (hm : ¬ m ≤ 0) (h1 : a1 0 = nI k) (h2 : ∀ j, j < 7 → a2 j = 0) (H : ∀ s t u : Nat → Int32, post 1 (m, c, 1, fk, sk, a1, a2, s, t, u, a6, a7)) : wpX_feasible post (m, c, 1, fk, sk, a1, a2, a3, a4, a5, a6, a7) :=
  tw_ask hk h1 (fun t ht => tw_good hk h0 hm h2 ht (fun s u => ⟨rfl, H s t u⟩))
/-- tryNew(d, 0) on an empty planner: 0, and the planner is empty again -/
theorem tw_new {post : Int32 → St2 → Prop} {k : Nat} (hk : k < 9) (h0 : 0 < k) (hm : ¬ m ≤ 0) (hc : ¬ c ≤ 0) (h2 : ∀ j, j < 7 → a2 j = 0) (H : ∀ b1 b2 b3 b4 b5 : Nat → Int32, post 0 (m, c, 0, fk, sk, b1, b2, b3, b4, b5, a6, a7)) : wpX_tryNew post (m, c, 0, fk, sk, a1, a2, a3, a4, a5, a6, a7) (nI k) 0 := by
  have h2' : ∀ j, j < 7 → upd a2 0 0 j = 0 := by
    intro j hj
    by_cases e : j = 0
    · rw [e, pk_us]
    · rw [pk_un e]
      exact h2 j hj
  refine tw_free hc (br_t (by decide) ⟨tw_in0, nm_r (e' := upd a1 0 (nI k)) (by rw [sb_cl0, tw_by k hk]) ⟨tw_in0, nm_r (e' := upd a2 0 0) ?_ (nm_r (e' := 1) (by decide) (tw_feas hk h0 hm pk_us h2' (fun s t u => nm_r (e' := 0) (by decide) ⟨tw_in0, nm_e (br_f (by decide) (H _ _ _ _ _))⟩)))⟩⟩)
  rw [sb_cl0, show (0 : Int32).toInt8.toInt32 = 0 by decide]
end
end
section
section
variable {m c p fk sk : Int32} {a1 a2 a3 a4 a5 a6 a7 : Nat → Int32}
/-- what probe(d) must answer -/
def tw_would (d : Int32) : Int32 := if d < 1 then -1 else if 8 < d then -1 else 0
theorem tw_probe {post : Int32 → St2 → Prop} {d : Int32} (hm : ¬ m ≤ 0) (hc : ¬ c ≤ 0) (h2 : ∀ j, j < 7 → a2 j = 0) (H : ∀ b1 b2 b3 b4 b5 : Nat → Int32, post (tw_would d) (m, c, 0, fk, sk, b1, b2, b3, b4, b5, a6, a7)) : wpX_probe post (m, c, 0, fk, sk, a1, a2, a3, a4, a5, a6, a7) d := by
  unfold tw_would at H
  refine br_c (fun g => ?_) (fun g => br_c (fun g2 => ?_) (fun g2 => ?_))
  · rw [if_pos g] at H
    exact H _ _ _ _ _
  · have g0 : ¬ d < 0 := by
      intro z
      exact g (Int32.lt_trans z (by decide))
    obtain ⟨k, hk, e⟩ := nI_of2 (n := 8) (M := 8) (by decide) g0 g2
    have hk0 : 0 < k := by
      rcases Nat.eq_zero_or_pos k with z | z
      · exact absurd (show d < 1 by rw [e, z]; decide) g
      · exact z
    have g3 : ¬ 8 < d := by
      rw [e]
      exact nI_nlt (a := 8) (b := k) hk (by omega)
    rw [if_neg g, if_neg g3] at H
    rw [e]
    exact tw_new (by omega) hk0 hm hc h2 (fun b1 b2 b3 b4 b5 => H b1 b2 b3 b4 b5)
  · have g3 : 8 < d := Int32.not_le.mp g2
    rw [if_neg g, if_pos g3] at H
    exact H _ _ _ _ _
/-- an empty planner holds no task -/
theorem tw_holds {post : Int32 → Prop} {x : Int32} (H : post 0) : wpX_holds post (m, c, 0, fk, sk, a1, a2, a3, a4, a5, a6, a7) x :=
  br_c (fun _ => H) (fun _ => br_c (fun _ => H) (fun _ => br_t (tw_b0 x) H))
theorem tw_before {post : Int32 → St2 → Prop} {d j : Int32} (H : post (-1) (m, c, 0, fk, sk, a1, a2, a3, a4, a5, a6, a7)) : wpX_addBefore post (m, c, 0, fk, sk, a1, a2, a3, a4, a5, a6, a7) d j :=
  br_c (fun _ => H) (fun _ => br_c (fun _ => H) (fun _ => tw_holds (br_t rfl H)))
theorem tw_set {post : Int32 → St2 → Prop} {i d : Int32} (H : post (-1) (m, c, 0, fk, sk, a1, a2, a3, a4, a5, a6, a7)) : wpX_setDeadline post (m, c, 0, fk, sk, a1, a2, a3, a4, a5, a6, a7) i d := by
  unfold wpX_setDeadline
  exact tw_holds (br_t rfl H)
theorem tw_linked {post : Int32 → Prop} {i j : Int32} (H : post 0) : wpX_linked post (m, c, 0, fk, sk, a1, a2, a3, a4, a5, a6, a7) i j := by
  unfold wpX_linked
  exact tw_holds (br_t rfl H)
theorem tw_tryLink {post : Int32 → St2 → Prop} {i j : Int32} (H : post (-1) (m, c, 0, fk, sk, a1, a2, a3, a4, a5, a6, a7)) : wpX_tryLink post (m, c, 0, fk, sk, a1, a2, a3, a4, a5, a6, a7) i j := by
  unfold wpX_tryLink
  exact tw_holds (br_t rfl H)
theorem tw_link {post : Int32 → St2 → Prop} {i j : Int32} (H : post (-1) (m, c, 0, fk, sk, a1, a2, a3, a4, a5, a6, a7)) : wpX_link post (m, c, 0, fk, sk, a1, a2, a3, a4, a5, a6, a7) i j := by
  unfold wpX_link
  exact tw_linked (tw_tryLink (br_f (by decide) H))
theorem tw_span {post : Int32 → St2 → Prop} (H : post 0 (m, c, 0, fk, sk, a1, a2, a3, a4, a5, a6, a7)) : wpX_span post (m, c, 0, fk, sk, a1, a2, a3, a4, a5, a6, a7) :=
  br_t rfl H
theorem tw_tight {post : Int32 → St2 → Prop} {i : Int32} (H : post (-1) (m, c, 0, fk, sk, a1, a2, a3, a4, a5, a6, a7)) : wpX_tightest post (m, c, 0, fk, sk, a1, a2, a3, a4, a5, a6, a7) i := by
  unfold wpX_tightest
  exact tw_holds (br_t rfl H)
/-- a new planner: no task, no link, one machine or two, room for one task at least -/
theorem tw_init {post : St2 → Prop} {x y : Int32} (H : ∀ m c : Int32, ¬ m ≤ 0 → ¬ c ≤ 0 → post (m, c, 0, 0, 0, (fun _ => 0), (fun _ => 0), (fun _ => 0), (fun _ => 0), (fun _ => 0), (fun _ => 0), (fun _ => 0))) : wpX_init post 7 49 (0, 0, 0, 0, 0) x y := by
  have P : ∀ z : Int32, 1 ≤ z → ¬ z ≤ 0 := fun z h g => absurd (Int32.le_trans h g) (by decide)
  have K : ∀ z : Int32, ¬ z ≤ 0 → wX_init_80 post 7 49 y z 7 49 0 0 0 0 0 (fun _ => 0) (fun _ => 0) (fun _ => 0) (fun _ => 0) (fun _ => 0) (fun _ => 0) (fun _ => 0) := fun z hz =>
    br_c (fun g => br_c (fun _ => H z y hz (P y g)) (fun _ => H z 7 hz (by decide))) (fun _ => H z 1 hz (by decide))
  exact ⟨by omega, by omega, by omega, by omega, by omega, by omega, by omega, by omega, by omega, by omega, by omega, by omega, by omega, by omega,
    br_c (fun g => br_c (fun _ => K x (P x g)) (fun _ => K 2 (by decide))) (fun _ => K 1 (by decide))⟩
theorem tw_end {post : Int32 → St0 → Prop} {mc ms kc ks : Nat} {z : Int32} (H : post 1 ()) : wL_lawOf_81 post mc ms (-1) (-1) (-1) 0 (-1) z z kc ks :=
  br_t rfl (br_t rfl (br_t rfl (br_t rfl (br_t rfl (br_t rfl H)))))
theorem tw_lawOf {post : Int32 → St0 → Prop} {x y d i j : Int32} (H : post 1 ()) : wpL_lawOf post 28 448 () x y d i j := by
  refine ⟨by omega, by omega, 7, 49, by omega, by omega, tw_init (fun m c hm hc => tw_probe hm hc (fun _ _ => rfl) (fun b1 b2 b3 b4 b5 => tw_before (tw_set (tw_link (tw_span (tw_tight ?_))))))⟩
  refine br_c (fun g => ?_) (fun g => br_c (fun g2 => ?_) (fun g2 => ?_))
  · rw [show tw_would d = -1 from if_pos g]
    exact tw_end H
  · rw [show tw_would d = -1 from (if_neg g).trans (if_pos g2)]
    exact tw_end H
  · rw [show tw_would d = 0 from (if_neg g).trans (if_neg g2)]
    exact tw_end H
theorem tw_cell {post : Int32 → Prop} {L : Nat} {xs : Nat → Int32} {u : St0} {x : Int32} (i : Nat) (hi : i < 5) (hL : L ≤ 5) (hx : x = nI i) (H : ∀ r, post r) : wpL_cellAt post L xs u x := by
  subst hx
  exact pk_le L i (fun _ => H _) (fun z => ⟨pk_in i L z, H _⟩)
end
theorem i_vc (xs : Nat → Int32) (L : Nat) (hL : L ≤ 5) : wpL_law (fun r => r = 1) L xs :=
  tw_cell 0 (by omega) hL rfl (fun r1 => tw_cell 1 (by omega) hL rfl (fun r2 => tw_cell 2 (by omega) hL rfl (fun r3 => tw_cell 3 (by omega) hL rfl (fun r4 => tw_cell 4 (by omega) hL rfl (fun r5 => ⟨28, 448, by omega, by omega, tw_lawOf rfl⟩)))))
end
