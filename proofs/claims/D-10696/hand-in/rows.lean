section
/-! ===== plain rows ===== -/
theorem nt_ix4 (k i : Nat) : nI k * 4 + nI i = nI (k * 4 + i) := by
  rw [show (4 : Int32) = nI 4 from rfl, pk_mul, nI_add]
theorem nt_ix6 (k i : Nat) : nI k * 6 + nI i = nI (k * 6 + i) := by
  rw [show (6 : Int32) = nI 6 from rfl, pk_mul, nI_add]
theorem nt_m8 (k : Nat) : nI k * 8 = nI (k * 8) := by
  rw [show (8 : Int32) = nI 8 from rfl, pk_mul]
theorem nt_m88 (k : Nat) : nI k * 8 + 8 = nI (k * 8 + 8) := by
  rw [nt_m8, show (8 : Int32) = nI 8 from rfl, nI_add]
theorem nt_ne1 {n : Nat} (h : n < 2 ^ 31) : ¬ nI n = -1 := by
  intro e
  have := nI_pos h
  rw [e] at this
  exact this (by decide)
theorem nt_dn {n : Nat} (h : n < 2 ^ 31) : nI n + (-1) < nI n := by
  cases n with
  | zero => decide
  | succ n => rw [pk_m1]; exact nI_lt (by omega) h
/-- a node: none, or a block of at most four words, which are blocks -/
def nt_N (z w : Nat → Int32) (x : Int32) : Prop := x = -1 ∨ ∃ k, k < 128 ∧ x = nI k ∧ ∃ t, t ≤ 4 ∧ z k = nI t ∧ ∀ i, i < t → ∃ b, b < 128 ∧ w (k * 4 + i) = nI b
/-! ===== need, survey ===== -/
section
variable {post : St2 → Prop} {c d m s : Int32} {a1 a2 a3 a4 a5 a6 a7 a8 a9 a10 a11 a12 a13 a14 : Nat → Int32}
theorem nt_need15 {k t : Nat} (hk : k < 128) (ht : t ≤ 4) (hz : a3 k = nI t) (hb : ∀ i, i < t → ∃ b, b < 128 ∧ a4 (k * 4 + i) = nI b) (H : ∀ y, post (c, d, m, s, a1, a2, a3, a4, a5, a6, a7, a8, a9, a10, a11, a12, a13, y)) :
    ∃ n, wX_need_15 post (nI k) c d m s n 0 a1 a2 a3 a4 a5 a6 a7 a8 a9 a10 a11 a12 a13 a14 := by
  refine pk_loop (fun n i y => wX_need_15 post (nI k) c d m s n (nI i) a1 a2 a3 a4 a5 a6 a7 a8 a9 a10 a11 a12 a13 y) (fun _ _ => True) t 0 a14 (by omega) trivial ?_ ?_
  · intro n y _
    exact ⟨pk_in k 128 hk, pk_le t t (fun _ => H y) (fun z => absurd z (by omega)) (by rw [nI_clamp (by omega)]; exact hz)⟩
  · intro n i y hi _ hw
    refine ⟨pk_in k 128 hk, pk_le t i (fun z => absurd z (by omega)) (fun _ => ⟨pk_in (k * 4 + i) 512 (by omega) (nt_ix4 k i), ?_, fun y' _ => nm_r (nI_1 i) (hw y' trivial)⟩) (by rw [nI_clamp (by omega)]; exact hz)⟩
    rw [nt_ix4, nI_clamp (by omega)]
    obtain ⟨b, h1, h2⟩ := hb i hi
    exact pk_in b 128 h1 h2
theorem nt_need {x : Int32} (h : nt_N a3 a4 x) (H : ∀ y, post (c, d, m, s, a1, a2, a3, a4, a5, a6, a7, a8, a9, a10, a11, a12, a13, y)) : wpX_need post (c, d, m, s, a1, a2, a3, a4, a5, a6, a7, a8, a9, a10, a11, a12, a13, a14) x := by
  rcases h with h | ⟨k, hk, rfl, t, ht, hz, hb⟩
  · exact br_t h (H a14)
  · exact br_f (nt_ne1 (by omega)) ⟨pk_in k 128 hk, fun y _ => nt_need15 hk ht hz hb H⟩
theorem nt_sv94 {p : Nat} (hd : d = 0) (hm : m &&& 1 = nI p) (hp : p < 2) (H : post (c, d, m, s, a1, a2, a3, a4, a5, a6, a7, a8, a9, a10, a11, a12, a13, a14)) : wX_survey_94 post c d m s a1 a2 a3 a4 a5 a6 a7 a8 a9 a10 a11 a12 a13 a14 :=
  ⟨pk_in p 2 hp hm, fun x _ => ⟨1, br_t (by rw [hd]; decide) H⟩⟩
theorem nt_sv24 {p : Nat} (hc : c = -1 ∨ vp_in c 128) (hd : d = 0) (hm : m &&& 1 = nI p) (hp : p < 2)
    (hN : ∀ f, f < 6 → nt_N a3 a4 (a11 f) ∧ nt_N a3 a4 (a12 f) ∧ nt_N a3 a4 (a9 (p * 6 + f))) (H : ∀ y, post (c, d, m, s, a1, a2, a3, a4, a5, a6, a7, a8, a9, a10, a11, a12, a13, y)) :
    ∃ n, wX_survey_24 post n 0 c d m s a1 a2 a3 a4 a5 a6 a7 a8 a9 a10 a11 a12 a13 a14 := by
  refine pk_loop (fun n i y => wX_survey_24 post n (nI i) c d m s a1 a2 a3 a4 a5 a6 a7 a8 a9 a10 a11 a12 a13 y) (fun _ _ => True) 6 0 a14 (by omega) trivial ?_ ?_
  · intro n y _
    refine pk_le 6 6 (fun _ => br_c (fun _ => nt_sv94 hd hm hp (H y)) (fun g => ⟨?_, fun y' _ => nt_sv94 hd hm hp (H y')⟩)) (fun z => absurd z (by omega))
    rcases hc with e | e
    · exact absurd e g
    · exact e
  · intro n i y hi _ hw
    obtain ⟨h1, h2, h3⟩ := hN i hi
    have e := nI_clamp (show i < 2 ^ 31 by omega)
    have e6 : (m &&& 1) * 6 + nI i = nI (p * 6 + i) := by rw [hm, nt_ix6]
    refine pk_le 6 i (fun z => absurd z (by omega)) (fun _ => ⟨pk_in i 6 hi, nt_need (by rw [e]; exact h1) (fun y1 => ⟨pk_in i 6 hi, nt_need (by rw [e]; exact h2) (fun y2 => ⟨pk_in (p * 6 + i) 12 (by omega) e6, nt_need (by rw [e6, nI_clamp (by omega)]; exact h3) (fun y3 => nm_r (nI_1 i) (hw y3 trivial))⟩)⟩)⟩)
theorem nt_survey {p : Nat} (hc : c = -1 ∨ vp_in c 128) (hd : d = 0) (hm : m &&& 1 = nI p) (hp : p < 2)
    (hN : ∀ f, f < 6 → nt_N a3 a4 (a11 f) ∧ nt_N a3 a4 (a12 f) ∧ nt_N a3 a4 (a9 (p * 6 + f))) (H : ∀ y, post (c, d, m, s, a1, a2, a3, a4, a5, a6, a7, a8, a9, a10, a11, a12, a13, y)) :
    wpX_survey post (c, d, m, s, a1, a2, a3, a4, a5, a6, a7, a8, a9, a10, a11, a12, a13, a14) := by
  refine pk_loop (fun n i y => wX_survey_2 post c d m s n (nI i) a1 a2 a3 a4 a5 a6 a7 a8 a9 a10 a11 a12 a13 y) (fun _ _ => True) 128 0 a14 (by omega) trivial ?_ ?_
  · intro n y _
    exact pk_le 128 128 (fun _ => nt_sv24 hc hd hm hp hN H) (fun z => absurd z (by omega))
  · intro n i y hi _ hw
    exact pk_le 128 i (fun z => absurd z (by omega)) (fun _ => ⟨pk_in i 128 hi, fun y' _ => nm_r (nI_1 i) (hw y' trivial)⟩)
end
/-! ===== freeIn, fresh ===== -/
section
variable {c d m s : Int32} {a1 a2 a3 a4 a5 a6 a7 a8 a9 a10 a11 a12 a13 a14 : Nat → Int32}
theorem nt_freeIn {post : Int32 → Prop} {k : Nat} (hk : k < 16) (H : ∀ r, post r) : wpX_freeIn post (c, d, m, s, a1, a2, a3, a4, a5, a6, a7, a8, a9, a10, a11, a12, a13, a14) (nI k) := by
  refine nm_r (nt_m8 k) ?_
  refine pk_loop (fun n i x => wX_freeIn_7 post (nI k) c d m s a1 a2 a3 a4 a5 a6 a7 a8 a9 a10 a11 a12 a13 a14 n x (nI i)) (fun _ _ => True) (k * 8 + 8) (k * 8) 0 (by omega) trivial ?_ ?_
  · intro n x _
    exact pk_le (k * 8 + 8) (k * 8 + 8) (fun _ => H x) (fun z => absurd z (by omega)) (nt_m88 k)
  · intro n i x hi _ hw
    exact pk_le (k * 8 + 8) i (fun z => absurd z (by omega)) (fun _ => ⟨pk_in i 128 (by omega), br_c (fun _ => nm_e (nm_r (nI_1 i) (hw _ trivial))) (fun _ => nm_r (nI_1 i) (hw _ trivial))⟩) (nt_m88 k)
theorem nt_fr75 {post : Int32 → St2 → Prop} {k : Nat} (hk : k < 16) (H : ∀ b, b < 128 → post (nI b) (c, d, m, nI k, a1, a2, a3, a4, upd a5 b (-1), a6, a7, a8, a9, a10, a11, a12, a13, a14)) :
    wX_fresh_54 post c d m (nI k) a1 a2 a3 a4 a5 a6 a7 a8 a9 a10 a11 a12 a13 a14 := by
  refine nm_r (nt_m8 k) (nm_r (e' := nI (k * 8 + 8 - 0) + (-1)) (by rw [nt_m88, Nat.sub_zero, pk_m1 (k * 8 + 7), nI_pred (k * 8 + 7)]) ?_)
  refine pk_loop (fun n i x => wX_fresh_75 post c d m (nI k) a1 a2 a3 a4 a5 a6 a7 a8 a9 a10 a11 a12 a13 a14 n x (nI (k * 8 + 8 - i) + (-1))) (fun _ x => ∃ b, b < 128 ∧ x = nI b) 8 0 (nI (k * 8)) (by omega) ⟨k * 8, by omega, rfl⟩ ?_ ?_
  · intro n x hx
    obtain ⟨b, hb, rfl⟩ := hx
    refine br_t ?_ ⟨pk_in b 128 hb, nm_r (by rw [nI_clamp (by omega)]) (H b hb)⟩
    rw [nt_m8, show k * 8 + 8 - 8 = k * 8 by omega]
    exact nt_dn (by omega)
  · intro n i x hi hx hw
    have e : nI (k * 8 + 8 - i) + (-1) = nI (k * 8 + 7 - i) := by rw [show k * 8 + 8 - i = (k * 8 + 7 - i) + 1 by omega, pk_m1]
    have e2 : nI (k * 8 + 7 - i) + (-1) = nI (k * 8 + 8 - (i + 1)) + (-1) := by rw [show k * 8 + 8 - (i + 1) = k * 8 + 7 - i by omega]
    show wX_fresh_75 post c d m (nI k) a1 a2 a3 a4 a5 a6 a7 a8 a9 a10 a11 a12 a13 a14 (n + 1) x (nI (k * 8 + 8 - i) + (-1))
    rw [e]
    refine pk_lt (k * 8 + 7 - i) (k * 8) (fun z => absurd z (by omega)) (fun _ => ⟨pk_in (k * 8 + 7 - i) 128 (by omega), br_c (fun _ => nm_r e2 (hw _ ⟨_, ?_, rfl⟩)) (fun _ => nm_r e2 (hw _ hx))⟩) rfl (nt_m8 k)
    omega
theorem nt_fr21 {post : Int32 → St2 → Prop} {k : Nat} (hk : k < 16) (H : ∀ b k, b < 128 → k < 16 → post (nI b) (c, d, m, nI k, a1, a2, a3, a4, upd a5 b (-1), a6, a7, a8, a9, a10, a11, a12, a13, a14)) :
    ∃ n, wX_fresh_21 post c d m a1 a2 a3 a4 a5 a6 a7 a8 a9 a10 a11 a12 a13 a14 n 0 0 (nI k) := by
  refine pk_loop (σ := Int32 × Int32) (fun n i x => wX_fresh_21 post c d m a1 a2 a3 a4 a5 a6 a7 a8 a9 a10 a11 a12 a13 a14 n x.1 (nI i) x.2) (fun _ x => ∃ k, k < 16 ∧ x.2 = nI k) 16 0 (0, nI k) (by omega) ⟨k, hk, rfl⟩ ?_ ?_
  · intro n x hx
    obtain ⟨x1, x2⟩ := x
    obtain ⟨k, hk, e⟩ := hx
    have e' : x2 = nI k := e
    subst e'
    exact pk_le 16 16 (fun _ => nt_fr75 hk (fun b hb => H b k hb hk)) (fun z => absurd z (by omega))
  · intro n i x hi hx hw
    obtain ⟨x1, x2⟩ := x
    refine pk_le 16 i (fun z => absurd z (by omega)) (fun _ => nt_freeIn hi (fun r => br_c (fun _ => nm_r (nI_1 i) (hw (x1, x2) hx)) (fun _ => nm_r (nI_1 i) (hw (r, nI i) ⟨i, hi, rfl⟩))))
/-- fresh: some block, some segment; its mark is taken away; what is counted is of no weight -/
theorem nt_fresh {post : Int32 → St2 → Prop} {p : Nat} (hc : c = -1 ∨ vp_in c 128) (hd : d = 0) (hm : m &&& 1 = nI p) (hp : p < 2) (hs : ∃ k, k < 16 ∧ s = nI k)
    (hN : ∀ f, f < 6 → nt_N a3 a4 (a11 f) ∧ nt_N a3 a4 (a12 f) ∧ nt_N a3 a4 (a9 (p * 6 + f)))
    (H : ∀ b k y, b < 128 → k < 16 → post (nI b) (c, d, m, nI k, a1, a2, a3, a4, upd a5 b (-1), a6, a7, a8, a9, a10, a11, a12, a13, y)) : wpX_fresh post (c, d, m, s, a1, a2, a3, a4, a5, a6, a7, a8, a9, a10, a11, a12, a13, a14) := by
  obtain ⟨k, hk, rfl⟩ := hs
  exact nt_survey hc hd hm hp hN (fun y => nt_freeIn hk (fun r => br_c (fun _ => nt_fr21 hk (fun b k hb hk => H b k y hb hk)) (fun _ => nt_fr75 hk (fun b hb => H b k y hb hk))))
end
end
section
/-! ===== writePack, checkpoint, the constructor ===== -/
section
variable {post : St2 → Prop} {c d m s : Int32} {a1 a2 a3 a4 a5 a6 a7 a8 a9 a10 a11 a12 a13 a14 : Nat → Int32}
/-- a row filled from the left -/
theorem nt_fill {f g : Nat → Int32} {o i : Nat} {x : Int32} (h : ∀ j, j < i → f (o + j) = g j) (hx : x = g i) : ∀ j, j < i + 1 → upd f (o + i) x (o + j) = g j := by
  intro j hj
  by_cases e : j = i
  · rw [e, pk_us, hx]
  · rw [pk_un (by omega)]
    exact h j (by omega)
theorem nt_fill0 {f g : Nat → Int32} {i : Nat} {x : Int32} (h : ∀ j, j < i → f j = g j) (hx : x = g i) : ∀ j, j < i + 1 → upd f i x j = g j := by
  intro j hj
  by_cases e : j = i
  · rw [e, pk_us, hx]
  · rw [pk_un e]
    exact h j (by omega)
theorem nt_pk29 {p : Nat} (hm : m &&& 1 = nI p) (hp : p < 2) (hs : ∃ k, k < 16 ∧ s = nI k)
    (hN : ∀ f, f < 6 → nt_N a3 a4 (a11 f) ∧ nt_N a3 a4 (a12 f))
    (H : ∀ b k y z, b < 128 → k < 16 → (∀ f, f < 6 → z (p * 6 + f) = a12 f) → post (nI b, 0, m, nI k, a1, a2, a3, a4, upd a5 b (-1), a6, a7, upd a8 p m, z, upd a10 p (nI b), a11, a12, a13, y)) :
    ∃ n, wX_writePack_29 post (nI p) c d m s n 0 a1 a2 a3 a4 a5 a6 a7 a8 a9 a10 a11 a12 a13 a14 := by
  refine pk_loop (fun n i z => wX_writePack_29 post (nI p) c d m s n (nI i) a1 a2 a3 a4 a5 a6 a7 a8 z a10 a11 a12 a13 a14) (fun i z => ∀ f, f < i → z (p * 6 + f) = a12 f) 6 0 a9 (by omega) (fun f hf => absurd hf (by omega)) ?_ ?_
  · intro n z hz
    refine pk_le 6 6 (fun _ => nt_fresh (Or.inl rfl) rfl hm hp hs (fun f hf => ⟨(hN f hf).1, (hN f hf).2, by rw [hz f hf]; exact (hN f hf).2⟩) (fun b k y hb hk => ?_)) (fun z => absurd z (by omega))
    refine ⟨pk_in p 2 hp, nm_r (by rw [nI_clamp (by omega)]) ⟨pk_in p 2 hp, nm_r (by rw [nI_clamp (by omega)]) (H b k y z hb hk hz)⟩⟩
  · intro n i z hi hz hw
    refine pk_le 6 i (fun z => absurd z (by omega)) (fun _ => ⟨pk_in i 6 hi, pk_in (p * 6 + i) 12 (by omega) (nt_ix6 p i), nm_r (e' := upd z (p * 6 + i) (a12 i)) (by rw [nt_ix6, nI_clamp (by omega), nI_clamp (by omega)]) (nm_r (nI_1 i) (hw _ (nt_fill hz rfl)))⟩)
theorem nt_pack {p : Nat} {M : Int32} (hM : m + 1 = M) (hm : M &&& 1 = nI p) (hp : p < 2) (hs : ∃ k, k < 16 ∧ s = nI k)
    (hN : ∀ f, f < 6 → nt_N a3 a4 (a11 f) ∧ nt_N a3 a4 (a12 f))
    (H : ∀ b k y z, b < 128 → k < 16 → (∀ f, f < 6 → z (p * 6 + f) = a12 f) → post (nI b, 0, M, nI k, a1, a2, a3, a4, upd a5 b (-1), a6, upd a7 p M, upd a8 p M, z, upd a10 p (nI b), a11, a12, a13, y)) :
    wpX_writePack post (c, d, m, s, a1, a2, a3, a4, a5, a6, a7, a8, a9, a10, a11, a12, a13, a14) :=
  nm_r hM (nm_r hm ⟨pk_in p 2 hp, nm_r (e' := upd a7 p M) (by rw [nI_clamp (by omega)]) (nt_pk29 hm hp hs hN H)⟩)
theorem nt_chk {p : Nat} {M : Int32} (hM : m + 1 = M) (hm : M &&& 1 = nI p) (hp : p < 2) (hs : ∃ k, k < 16 ∧ s = nI k)
    (hN : ∀ f, f < 6 → nt_N a3 a4 (a11 f))
    (H : ∀ b k y z u v, b < 128 → k < 16 → (∀ f, f < 6 → z (p * 6 + f) = a11 f) → (∀ f, f < 6 → u f = a11 f) → post (nI b, 0, M, nI k, a1, a2, a3, a4, upd a5 b (-1), a6, upd a7 p M, upd a8 p M, z, upd a10 p (nI b), a11, u, v, y)) :
    wpX_checkpoint post (c, d, m, s, a1, a2, a3, a4, a5, a6, a7, a8, a9, a10, a11, a12, a13, a14) := by
  refine pk_loop (σ := (Nat → Int32) × (Nat → Int32)) (fun n i x => wX_checkpoint_2 post c d m s n (nI i) a1 a2 a3 a4 a5 a6 a7 a8 a9 a10 a11 x.1 x.2 a14) (fun i x => ∀ f, f < i → x.1 f = a11 f) 6 0 (a12, a13) (by omega) (fun f hf => absurd hf (by omega)) ?_ ?_
  · intro n x hx
    obtain ⟨u, v⟩ := x
    have hu : ∀ f, f < 6 → u f = a11 f := hx
    refine pk_le 6 6 (fun _ => nt_pack hM hm hp hs (fun f hf => ⟨hN f hf, by show nt_N a3 a4 (u f); rw [hu f hf]; exact hN f hf⟩) (fun b k y z hb hk hz => ?_)) (fun z => absurd z (by omega))
    exact H b k y z u v hb hk (fun f hf => (hz f hf).trans (hu f hf)) hu
  · intro n i x hi hx hw
    obtain ⟨u, v⟩ := x
    have hu : ∀ f, f < i → u f = a11 f := hx
    refine pk_le 6 i (fun z => absurd z (by omega)) (fun _ => ⟨pk_in i 6 hi, pk_in i 6 hi, nm_r (e' := upd u i (a11 i)) (by rw [nI_clamp (by omega)]) ⟨pk_in i 6 hi, fun v' _ => nm_r (nI_1 i) (hw (upd u i (a11 i), v') (nt_fill0 hu rfl))⟩⟩)
theorem nt_in144 {mc ms kc ks : Nat} (hm : m = 0) (hs : s = 0)
    (H : ∀ b k y z u v x, b < 128 → k < 16 → (∀ f, f < 6 → z (6 + f) = -1) → (∀ f, f < 6 → x f = -1) → (∀ f, f < 6 → u f = -1) →
      post (nI b, 0, 1, nI k, a1, a2, a3, a4, upd a5 b (-1), a6, upd a7 1 1, upd a8 1 1, z, upd a10 1 (nI b), x, u, v, y)) :
    ∃ n, wX_init_144 post mc ms kc ks c d m s n 0 a1 a2 a3 a4 a5 a6 a7 a8 a9 a10 a11 a12 a13 a14 := by
  refine pk_loop (σ := (Nat → Int32) × (Nat → Int32)) (fun n i x => wX_init_144 post mc ms kc ks c d m s n (nI i) a1 a2 a3 a4 a5 a6 a7 a8 a9 a10 x.1 x.2 a13 a14) (fun i x => ∀ f, f < i → x.1 f = -1) 6 0 (a11, a12) (by omega) (fun f hf => absurd hf (by omega)) ?_ ?_
  · intro n x hx
    obtain ⟨x, u⟩ := x
    have hx : ∀ f, f < 6 → x f = -1 := hx
    refine pk_le 6 6 (fun _ => nt_chk (p := 1) (M := 1) (by rw [hm]; decide) (by decide) (by decide) ⟨0, by decide, hs⟩ (fun f hf => Or.inl (hx f hf)) (fun b k y z u v hb hk hz hu => ?_)) (fun z => absurd z (by omega))
    exact H b k y z u v x hb hk (fun f hf => (hz f hf).trans (hx f hf)) hx (fun f hf => (hu f hf).trans (hx f hf))
  · intro n i x hi hx hw
    obtain ⟨x, u⟩ := x
    have hx : ∀ f, f < i → x f = -1 := hx
    refine pk_le 6 i (fun z => absurd z (by omega)) (fun _ => ⟨pk_in i 6 hi, nm_r (e' := upd x i (-1)) (by rw [nI_clamp (by omega)]) ⟨pk_in i 6 hi, fun u' _ => nm_r (nI_1 i) (hw (upd x i (-1), u') (nt_fill0 (g := fun _ => -1) hx rfl))⟩⟩)
theorem nt_in122 {mc ms kc ks : Nat} (hm : m = 0) (hs : s = 0)
    (H : ∀ b k y z u v x w, b < 128 → k < 16 → (∀ f, f < 6 → z (6 + f) = -1) → (∀ f, f < 6 → x f = -1) → (∀ f, f < 6 → u f = -1) →
      post (nI b, 0, 1, nI k, a1, a2, a3, a4, upd w b (-1), a6, upd a7 1 1, upd a8 1 1, z, upd a10 1 (nI b), x, u, v, y)) :
    ∃ n, wX_init_122 post mc ms kc ks c d m s n 0 a1 a2 a3 a4 a5 a6 a7 a8 a9 a10 a11 a12 a13 a14 := by
  refine pk_loop (fun n i w => wX_init_122 post mc ms kc ks c d m s n (nI i) a1 a2 a3 a4 w a6 a7 a8 a9 a10 a11 a12 a13 a14) (fun _ _ => True) 128 0 a5 (by omega) trivial ?_ ?_
  · intro n w _
    exact pk_le 128 128 (fun _ => nt_in144 hm hs (fun b k y z u v x => H b k y z u v x w)) (fun z => absurd z (by omega))
  · intro n i w hi _ hw
    exact pk_le 128 i (fun z => absurd z (by omega)) (fun _ => ⟨pk_in i 128 hi, fun w' _ => nm_r (nI_1 i) (hw w' trivial)⟩)
theorem nt_init {mc ms : Nat} (h1 : 14 ≤ mc) (h2 : 1316 ≤ ms)
    (H : ∀ b k y z u v x w, b < 128 → k < 16 → (∀ f, f < 6 → z (6 + f) = -1) → (∀ f, f < 6 → x f = -1) → (∀ f, f < 6 → u f = -1) →
      post (nI b, 0, 1, nI k, (fun _ => 0), (fun _ => 0), (fun _ => 0), (fun _ => 0), upd w b (-1), (fun _ => 0), upd (fun _ => 0) 1 1, upd (fun _ => 0) 1 1, z, upd (fun _ => 0) 1 (nI b), x, u, v, y)) :
    wpX_init post mc ms (0, 0, 0, 0) := by
  refine ⟨?_, ?_, ?_, ?_, ?_, ?_, ?_, ?_, ?_, ?_, ?_, ?_, ?_, ?_, ?_, ?_, ?_, ?_, ?_, ?_, ?_, ?_, ?_, ?_, ?_, ?_, ?_, ?_, nt_in122 rfl rfl H⟩ <;> omega
end
end
section
/-! ===== bad, writeNode ===== -/
section
variable {c d m s : Int32} {a1 a2 a3 a4 a5 a6 a7 a8 a9 a10 a11 a12 a13 a14 : Nat → Int32}
theorem nt_bad {post : Int32 → Prop} {f : Nat} (hf : f < 6) (H : post 0) : wpX_bad post (c, d, m, s, a1, a2, a3, a4, a5, a6, a7, a8, a9, a10, a11, a12, a13, a14) (nI f) :=
  br_f (nI_pos (by omega)) (br_t (nI_lt (b := 6) hf (by decide)) H)
theorem nt_badO {post : Int32 → Prop} {x : Int32} (h : x < 0 ∨ ¬ x < 6) (H : post 1) : wpX_bad post (c, d, m, s, a1, a2, a3, a4, a5, a6, a7, a8, a9, a10, a11, a12, a13, a14) x :=
  br_c (fun _ => H) (fun g => br_f (h.elim (fun z => absurd z g) id) H)
theorem nt_ix40 (b : Nat) : nI b * 4 + 0 = nI (b * 4) := nt_ix4 b 0
theorem nt_wn25 {post : St2 → Prop} {f b : Nat} {x3 : Int32} (hf : f < 6) (hb : b < 128) (hx : x3 = -1 ∨ vp_in x3 128)
    (H : ∀ w, (∀ j, j < 128 → x3 = nI j → a3 j = nI 1 → w (b * 4) = a4 (j * 4)) → post (c, d, m, s, a1, a2, a3, w, a5, a6, a7, a8, a9, a10, upd a11 f (nI b), a12, a13, a14)) :
    ∃ n, wX_writeNode_25 post (nI f) x3 (-1) (-1) (nI b) c d m s n 0 a1 a2 a3 a4 a5 a6 a7 a8 a9 a10 a11 a12 a13 a14 := by
  refine pk_loop (fun n i w => wX_writeNode_25 post (nI f) x3 (-1) (-1) (nI b) c d m s n (nI i) a1 a2 a3 w a5 a6 a7 a8 a9 a10 a11 a12 a13 a14) (fun i w => (i = 0 → w = a4) ∧ (1 ≤ i → ∀ j, j < 128 → x3 = nI j → a3 j = nI 1 → w (b * 4) = a4 (j * 4))) 4 0 a4 (by omega) ⟨fun _ => rfl, fun z => absurd z (by omega)⟩ ?_ ?_
  · intro n w hI
    exact pk_le 4 4 (fun _ => ⟨pk_in f 6 hf, nm_r (by rw [nI_clamp (by omega)]) (H w (hI.2 (by omega)))⟩) (fun z => absurd z (by omega))
  · intro n i w hi hI hw
    have st : ∀ v, (i = 0 → ∀ j, j < 128 → x3 = nI j → a3 j = nI 1 → v = a4 (j * 4)) → wX_writeNode_62 post (wX_writeNode_25 post (nI f) x3 (-1) (-1) (nI b) c d m s n) (nI f) x3 (-1) (-1) (nI b) (nI i) v c d m s a1 a2 a3 w a5 a6 a7 a8 a9 a10 a11 a12 a13 a14 := by
      intro v hv
      refine br_f (nt_ne1 (by omega)) ⟨pk_in (b * 4 + i) 512 (by omega) (nt_ix4 b i), nm_r (e' := upd w (b * 4 + i) v) (by rw [nt_ix4, nI_clamp (by omega)]) (nm_r (nI_1 i) (hw _ ⟨fun z => absurd z (by omega), fun _ j hj e1 e2 => ?_⟩))⟩
      by_cases e : i = 0
      · subst e
        rw [Nat.add_zero, pk_us]
        exact hv rfl j hj e1 e2
      · rw [pk_un (by omega)]
        exact hI.2 (by omega) j hj e1 e2
    refine pk_le 4 i (fun z => absurd z (by omega)) (fun _ => br_c (fun e => st (-1) (fun _ j hj e1 _ => absurd (e1.symm.trans e) (nt_ne1 (by omega)))) (fun g => ?_))
    obtain ⟨k, hk, e0⟩ := vp_in_of (hx.resolve_left g) (by decide)
    subst e0
    have eq : ∀ j, j < 128 → nI k = nI j → k = j := fun j hj e => (nI_eq (by omega) (by omega)).mp e
    refine ⟨pk_in k 128 hk, br_c (fun _ => ⟨pk_in (k * 4 + i) 512 (by omega) (nt_ix4 k i), st _ (fun e j hj e1 _ => ?_)⟩) (fun z => st (-1) (fun e j hj e1 e2 => absurd ?_ z))⟩
    · have e3 := eq j hj e1
      subst e3 e
      rw [hI.1 rfl, nt_ix4, nI_clamp (by omega), Nat.add_zero]
    · have e3 := eq j hj e1
      subst e3 e
      rw [nI_clamp (by omega), e2]
      exact nI_lt (by omega) (by omega)
theorem nt_wnode {post : St2 → Prop} {f p : Nat} {t x3 : Int32} (hc : c = -1 ∨ vp_in c 128) (hd : d = 0) (hm : m &&& 1 = nI p) (hp : p < 2) (hs : ∃ k, k < 16 ∧ s = nI k)
    (hN : ∀ f, f < 6 → nt_N a3 a4 (a11 f) ∧ nt_N a3 a4 (a12 f) ∧ nt_N a3 a4 (a9 (p * 6 + f))) (hf : f < 6) (hx : x3 = -1 ∨ vp_in x3 128)
    (H : ∀ b k y w, b < 128 → k < 16 → (∀ j, j < 128 → x3 = nI j → upd a3 b t j = nI 1 → w (b * 4) = a4 (j * 4)) → post (c, d, m, nI k, a1, upd a2 b (nI f), upd a3 b t, w, upd a5 b (-1), a6, a7, a8, a9, a10, upd a11 f (nI b), a12, a13, y)) :
    wpX_writeNode post (c, d, m, s, a1, a2, a3, a4, a5, a6, a7, a8, a9, a10, a11, a12, a13, a14) (nI f) t x3 (-1) (-1) :=
  nt_fresh hc hd hm hp hs hN (fun b k y hb hk => ⟨pk_in b 128 hb, nm_r (e' := upd a2 b (nI f)) (by rw [nI_clamp (by omega)]) ⟨pk_in b 128 hb, nm_r (e' := upd a3 b t) (by rw [nI_clamp (by omega)]) (nt_wn25 hf hb hx (fun w hw => H b k y w hb hk hw))⟩⟩)
end
/-! ===== the picture: file f alone is there, young, its node k with t words (0 or 1), the word x; the others are none ===== -/
def nt_Q (f k t : Nat) (x c s : Int32) (a1 a3 a4 a9 a11 a12 a13 : Nat → Int32) : Prop :=
  (c = -1 ∨ vp_in c 128) ∧ (∃ j, j < 16 ∧ s = nI j) ∧ (∀ g, g < 6 → a9 (1 * 6 + g) = -1) ∧ (∀ g, g < 6 → a12 g = -1) ∧ (∀ g, g < 6 → g ≠ f → a11 g = -1) ∧ f < 6 ∧ k < 128 ∧ t ≤ 1 ∧
  a11 f = nI k ∧ a3 k = nI t ∧ (t = 1 → ∃ b, b < 128 ∧ a4 (k * 4) = nI b ∧ a1 b = x) ∧ a13 f = 1
theorem nt_mN {f k t : Nat} {a3 a4 a9 a11 a12 : Nat → Int32} (h9 : ∀ g, g < 6 → a9 (1 * 6 + g) = -1) (h12 : ∀ g, g < 6 → a12 g = -1) (h11 : ∀ g, g < 6 → g ≠ f → a11 g = -1)
    (hk : k < 128) (ht : t ≤ 1) (hf : a11 f = nI k) (hz : a3 k = nI t) (hw : t = 1 → ∃ b, b < 128 ∧ a4 (k * 4) = nI b) :
    ∀ g, g < 6 → nt_N a3 a4 (a11 g) ∧ nt_N a3 a4 (a12 g) ∧ nt_N a3 a4 (a9 (1 * 6 + g)) := by
  intro g hg
  refine ⟨?_, Or.inl (h12 g hg), Or.inl (h9 g hg)⟩
  by_cases e : g = f
  · subst e
    refine Or.inr ⟨k, hk, hf, t, by omega, hz, fun i hi => ?_⟩
    have hi0 : i = 0 := by omega
    subst hi0
    exact hw (by omega)
  · exact Or.inl (h11 g hg e)
theorem nt_QN {f k t : Nat} {x c s : Int32} {a1 a3 a4 a9 a11 a12 a13 : Nat → Int32} (q : nt_Q f k t x c s a1 a3 a4 a9 a11 a12 a13) :
    ∀ g, g < 6 → nt_N a3 a4 (a11 g) ∧ nt_N a3 a4 (a12 g) ∧ nt_N a3 a4 (a9 (1 * 6 + g)) := by
  obtain ⟨_, _, h9, h12, h11, _, hk, ht, hf, hz, hw, _⟩ := q
  exact nt_mN h9 h12 h11 hk ht hf hz (fun e => by obtain ⟨b, h1, h2, _⟩ := hw e; exact ⟨b, h1, h2⟩)
theorem nt_u6 {f : Nat} {v : Int32} {a : Nat → Int32} (h : ∀ g, g < 6 → g ≠ f → a g = -1) : ∀ g, g < 6 → g ≠ f → upd a f v g = -1 := by
  intro g hg e
  rw [pk_un e]
  exact h g hg e
theorem nt_11 : (1 : Int32) &&& 1 = nI 1 := by decide
/-! ===== create, write, read, truncate ===== -/
section
variable {c s : Int32} {a1 a2 a3 a4 a5 a6 a7 a8 a9 a10 a11 a12 a13 a14 : Nat → Int32} {f k t : Nat} {x : Int32}
theorem nt_create {post : Int32 → St2 → Prop} (hf : f < 6) (hc : c = -1 ∨ vp_in c 128) (hs : ∃ j, j < 16 ∧ s = nI j) (h9 : ∀ g, g < 6 → a9 (1 * 6 + g) = -1) (h11 : ∀ g, g < 6 → a11 g = -1) (h12 : ∀ g, g < 6 → a12 g = -1)
    (H : ∀ k s b2 b3 b4 b5 b11 b13 b14, nt_Q f k 0 x c s a1 b3 b4 a9 b11 a12 b13 → post 0 (c, 0, 1, s, a1, b2, b3, b4, b5, a6, a7, a8, a9, a10, b11, a12, b13, b14)) :
    wpX_create post (c, 0, 1, s, a1, a2, a3, a4, a5, a6, a7, a8, a9, a10, a11, a12, a13, a14) (nI f) := by
  unfold wpX_create
  refine nt_bad hf ?_
  refine (br_t rfl ⟨pk_in f 6 hf, br_t (by rw [nI_clamp (by omega)]; exact h11 f hf) ?_⟩)
  refine nt_wnode hc rfl nt_11 (by decide) hs (fun g hg => ⟨Or.inl (h11 g hg), Or.inl (h12 g hg), Or.inl (h9 g hg)⟩) hf (Or.inl rfl) (fun b j y w hb hj _ => ?_)
  refine ⟨pk_in f 6 hf, nm_r (e' := upd a13 f 1) (by rw [nI_clamp (by omega)]) (H b (nI j) _ _ _ _ _ _ _ ?_)⟩
  exact ⟨hc, ⟨j, hj, rfl⟩, h9, h12, nt_u6 (fun g hg _ => h11 g hg), hf, hb, by omega, pk_us, pk_us, fun z => absurd z (by omega), pk_us⟩
theorem nt_w73 {post : Int32 → St2 → Prop} {v z : Int32} (hz : z = 1) (q : nt_Q f k 0 x c s a1 a3 a4 a9 a11 a12 a13)
    (H : ∀ k s b1 b2 b3 b4 b5 b11 b14, nt_Q f k 1 v c s b1 b3 b4 a9 b11 a12 a13 → post 1 (c, 0, 1, s, b1, b2, b3, b4, b5, a6, a7, a8, a9, a10, b11, a12, a13, b14)) :
    wX_write_73 post (nI f) 0 v (nI k) z c 0 1 s a1 a2 a3 a4 a5 a6 a7 a8 a9 a10 a11 a12 a13 a14 := by
  subst hz
  have hN := nt_QN q
  obtain ⟨hc, hs, h9, h12, h11, hf, hk, _, _, _, _, h13⟩ := q
  refine nt_wnode hc rfl nt_11 (by decide) hs hN hf (Or.inr (pk_in k 128 hk)) (fun b j y w hb hj _ => ?_)
  refine ⟨pk_in f 6 hf, nm_r (e' := nI b) (by rw [nI_clamp (by omega), pk_us]) ⟨pk_in b 128 hb, nm_r (e' := upd (upd a3 b 1) b 1) (by rw [nI_clamp (by omega)]) ⟨pk_in (b * 4) 512 (by omega) (nt_ix40 b), nm_r (e' := upd w (b * 4) (nI b)) (by rw [nt_ix40, nI_clamp (by omega)]) ?_⟩⟩⟩
  have h11' : ∀ g, g < 6 → g ≠ f → upd a11 f (nI b) g = -1 := nt_u6 h11
  refine nt_fresh hc rfl nt_11 (by decide) ⟨j, hj, rfl⟩ (nt_mN h9 h12 h11' hb (Nat.le_refl 1) pk_us pk_us (fun _ => ⟨b, hb, pk_us⟩)) (fun b' j' y' hb' hj' => ?_)
  refine ⟨pk_in b' 128 hb', nm_r (e' := upd a1 b' v) (by rw [nI_clamp (by omega)]) ⟨pk_in (b * 4) 512 (by omega) (nt_ix40 b), nm_r (e' := upd (upd w (b * 4) (nI b)) (b * 4) (nI b')) (by rw [nt_ix40, nI_clamp (by omega)]) (H b (nI j') _ _ _ _ _ _ _ ?_)⟩⟩
  exact ⟨hc, ⟨j', hj', rfl⟩, h9, h12, h11', hf, hb, by omega, pk_us, pk_us, fun _ => ⟨b', hb', pk_us, pk_us⟩, h13⟩
theorem nt_write {post : Int32 → St2 → Prop} {v : Int32} (q : nt_Q f k 0 x c s a1 a3 a4 a9 a11 a12 a13)
    (H : ∀ k s b1 b2 b3 b4 b5 b11 b14, nt_Q f k 1 v c s b1 b3 b4 a9 b11 a12 a13 → post 1 (c, 0, 1, s, b1, b2, b3, b4, b5, a6, a7, a8, a9, a10, b11, a12, a13, b14)) :
    wpX_write post (c, 0, 1, s, a1, a2, a3, a4, a5, a6, a7, a8, a9, a10, a11, a12, a13, a14) (nI f) 0 v := by
  have W : wX_write_73 post (nI f) 0 v (nI k) (0 + 1) c 0 1 s a1 a2 a3 a4 a5 a6 a7 a8 a9 a10 a11 a12 a13 a14 := nt_w73 (by decide) q H
  obtain ⟨_, _, _, _, _, hf, hk, _, e11, e3, _, _⟩ := q
  have e3' : a3 (nI k).toNatClampNeg = 0 := by rw [nI_clamp (by omega), e3]; rfl
  unfold wpX_write
  refine nt_bad hf ?_
  exact (br_t rfl ⟨pk_in f 6 hf, nm_r (e' := nI k) (by rw [nI_clamp (by omega), e11]) (br_f (nt_ne1 (by omega)) (br_f (by decide) ⟨pk_in k 128 hk, br_f (by rw [e3']; decide) (br_f (by decide) ⟨pk_in k 128 hk, br_t e3'.symm W⟩)⟩))⟩)
theorem nt_writeN {post : Int32 → St2 → Prop} {i v : Int32} (hi : ¬ i = 0) (q : nt_Q f k 0 x c s a1 a3 a4 a9 a11 a12 a13) (H : post (-1) (c, 0, 1, s, a1, a2, a3, a4, a5, a6, a7, a8, a9, a10, a11, a12, a13, a14)) :
    wpX_write post (c, 0, 1, s, a1, a2, a3, a4, a5, a6, a7, a8, a9, a10, a11, a12, a13, a14) (nI f) i v := by
  obtain ⟨_, _, _, _, _, hf, hk, _, e11, e3, _, _⟩ := q
  have e3' : a3 (nI k).toNatClampNeg = 0 := by rw [nI_clamp (by omega), e3]; rfl
  unfold wpX_write
  refine nt_bad hf ?_
  refine (br_t rfl ⟨pk_in f 6 hf, nm_r (e' := nI k) (by rw [nI_clamp (by omega), e11]) (br_f (nt_ne1 (by omega)) (br_c (fun _ => H) (fun g => ⟨pk_in k 128 hk, br_t ?_ H⟩)))⟩)
  obtain ⟨j, hj, rfl⟩ := nI_of g
  rw [e3']
  rcases Nat.eq_zero_or_pos j with e | e
  · subst e
    exact absurd nI_0 hi
  · exact nI_lt (a := 0) e hj
theorem nt_read {post : Int32 → Prop} {d m r : Int32} (q : nt_Q f k t x c s a1 a3 a4 a9 a11 a12 a13) (h0 : t = 0 → r = 0) (h1 : t = 1 → r = x) (H : post r) :
    wpX_read post (c, d, m, s, a1, a2, a3, a4, a5, a6, a7, a8, a9, a10, a11, a12, a13, a14) (nI f) 0 := by
  obtain ⟨_, _, _, _, _, hf, hk, ht, e11, e3, e4, _⟩ := q
  have e11' : a11 (nI f).toNatClampNeg = nI k := by rw [nI_clamp (by omega), e11]
  have e3' : a3 (nI k).toNatClampNeg = nI t := by rw [nI_clamp (by omega), e3]
  unfold wpX_read
  refine nt_bad hf ?_
  refine (br_t rfl ⟨pk_in f 6 hf, ?_⟩)
  rw [e11', e3', nt_ix40, nI_clamp (show k * 4 < 2 ^ 31 by omega)]
  refine br_f (nt_ne1 (by omega)) (br_f (by decide) ⟨pk_in f 6 hf, pk_in k 128 hk, ?_⟩)
  rcases (show t = 0 ∨ t = 1 by omega) with e | e
  · rw [h0 e] at H
    subst e
    exact br_f (by decide) H
  · rw [h1 e] at H
    obtain ⟨b, hb, e5, e6⟩ := e4 e
    subst e
    rw [e5, nI_clamp (show b < 2 ^ 31 by omega), e6]
    exact br_t (by decide) ⟨pk_in f 6 hf, pk_in (k * 4) 512 (by omega), pk_in b 128 hb, H⟩
theorem nt_trunc {post : Int32 → St2 → Prop} {t' : Nat} (ht' : t' ≤ t) (q : nt_Q f k t x c s a1 a3 a4 a9 a11 a12 a13)
    (H : ∀ k s b2 b3 b4 b5 b11 b14, nt_Q f k t' x c s a1 b3 b4 a9 b11 a12 a13 → post (nI t) (c, 0, 1, s, a1, b2, b3, b4, b5, a6, a7, a8, a9, a10, b11, a12, a13, b14)) :
    wpX_truncate post (c, 0, 1, s, a1, a2, a3, a4, a5, a6, a7, a8, a9, a10, a11, a12, a13, a14) (nI f) (nI t') := by
  have hN := nt_QN q
  obtain ⟨hc, hs, h9, h12, h11, hf, hk, ht, e11, e3, e4, h13⟩ := q
  unfold wpX_truncate
  refine nt_bad hf ?_
  refine (br_t rfl ⟨pk_in f 6 hf, nm_r (e' := nI k) (by rw [nI_clamp (by omega), e11]) (br_f (nt_ne1 (by omega)) ⟨pk_in k 128 hk, nm_r (e' := nI t) (by rw [nI_clamp (by omega), e3]) (br_f (nI_pos (by omega)) (br_t (nI_le ht' (by omega)) ?_))⟩)⟩)
  refine nt_wnode hc rfl nt_11 (by decide) hs hN hf (Or.inr (pk_in k 128 hk)) (fun b j y w hb hj hw => ?_)
  refine H b (nI j) _ _ _ _ _ _ ⟨hc, ⟨j, hj, rfl⟩, h9, h12, nt_u6 h11, hf, hb, by omega, pk_us, pk_us, fun e => ?_, h13⟩
  have et : t = 1 := by omega
  obtain ⟨b0, hb0, e5, e6⟩ := e4 et
  refine ⟨b0, hb0, ?_, e6⟩
  rw [← e5]
  refine hw k hk rfl ?_
  by_cases eb : k = b
  · rw [eb, pk_us, e]
  · rw [pk_un eb, e3, et]
theorem nt_truncN {post : Int32 → St2 → Prop} {d m n : Int32} (hn : n < 0 ∨ ¬ n ≤ nI t) (q : nt_Q f k t x c s a1 a3 a4 a9 a11 a12 a13) (H : post (-1) (c, d, m, s, a1, a2, a3, a4, a5, a6, a7, a8, a9, a10, a11, a12, a13, a14)) :
    wpX_truncate post (c, d, m, s, a1, a2, a3, a4, a5, a6, a7, a8, a9, a10, a11, a12, a13, a14) (nI f) n := by
  obtain ⟨hc, hs, h9, h12, h11, hf, hk, ht, e11, e3, e4, h13⟩ := q
  unfold wpX_truncate
  refine nt_bad hf ?_
  exact (br_t rfl ⟨pk_in f 6 hf, nm_r (e' := nI k) (by rw [nI_clamp (by omega), e11]) (br_f (nt_ne1 (by omega)) ⟨pk_in k 128 hk, nm_r (e' := nI t) (by rw [nI_clamp (by omega), e3]) (br_c (fun _ => H) (fun g => br_f (hn.resolve_left g) H))⟩)⟩)
theorem nt_fsync {post : Int32 → St2 → Prop} (q : nt_Q f k t x c s a1 a3 a4 a9 a11 a12 a13)
    (H : ∀ b j y z u v, b < 128 → j < 16 → (∀ g, g < 6 → z (0 * 6 + g) = a11 g) → post 1 (nI b, 0, 2, nI j, a1, a2, a3, a4, upd a5 b (-1), a6, upd a7 0 2, upd a8 0 2, z, upd a10 0 (nI b), a11, u, v, y)) :
    wpX_fsync post (c, 0, 1, s, a1, a2, a3, a4, a5, a6, a7, a8, a9, a10, a11, a12, a13, a14) (nI f) := by
  have hN := nt_QN q
  obtain ⟨hc, hs, h9, h12, h11, hf, hk, ht, e11, e3, e4, h13⟩ := q
  unfold wpX_fsync
  refine nt_bad hf ?_
  refine (br_t rfl ⟨pk_in f 6 hf, nm_r (e' := nI k) (by rw [nI_clamp (by omega), e11]) (br_f (nt_ne1 (by omega)) ⟨pk_in f 6 hf, br_f (by rw [nI_clamp (by omega), h13]; decide) ?_⟩)⟩)
  exact nt_chk (p := 0) (M := 2) (by decide) (by decide) (by decide) hs (fun g hg => (hN g hg).1) (fun b j y z u v hb hj hz _ => H b j y z u v hb hj hz)
end
end
section
/-! ===== mount, count, crash ===== -/
section
variable {c d m s : Int32} {a1 a2 a3 a4 a5 a6 a7 a8 a9 a10 a11 a12 a13 a14 : Nat → Int32}
theorem nt_mt185 {post : St2 → Prop} (H : ∀ u, post (c, d, m, s, a1, a2, a3, a4, a5, a6, a7, a8, a9, a10, a11, u, a13, a14)) : ∃ n, wX_mount_185 post c d m s n 0 a1 a2 a3 a4 a5 a6 a7 a8 a9 a10 a11 a12 a13 a14 := by
  refine pk_loop (fun n i u => wX_mount_185 post c d m s n (nI i) a1 a2 a3 a4 a5 a6 a7 a8 a9 a10 a11 u a13 a14) (fun _ _ => True) 6 0 a12 (by omega) trivial ?_ ?_
  · intro n u _
    exact pk_le 6 6 (fun _ => H u) (fun z => absurd z (by omega))
  · intro n i u hi _ hw
    exact pk_le 6 i (fun z => absurd z (by omega)) (fun _ => ⟨pk_in i 6 hi, pk_in i 6 hi, fun u' _ => nm_r (nI_1 i) (hw u' trivial)⟩)
theorem nt_mt114 {post : St2 → Prop} {b : Nat} (hb : b < 128) (h5 : ¬ a5 b = m) (H : ∀ u, post (nI b, 0, m, s, a1, a2, a3, a4, a5, a6, a7, a8, a9, a10, a11, u, a13, a14)) : ∃ n, wX_mount_114 post m s n 0 (nI b) 0 a1 a2 a3 a4 a5 a6 a7 a8 a9 a10 a11 a12 a13 a14 :=
  ⟨1, br_f (by decide) ⟨pk_in b 128 hb, br_f (by rw [nI_clamp (by omega)]; exact h5) (nt_mt185 H)⟩⟩
theorem nt_mt61 {post : St2 → Prop} {q b : Nat} (hq : q < 2) (h10 : a10 q = nI b) (hb : b < 128) (h5 : ¬ a5 b = m)
    (H : ∀ x u v, (∀ g, g < 6 → x g = a9 (q * 6 + g)) → post (nI b, 0, m, s, a1, a2, a3, a4, a5, a6, a7, a8, a9, a10, x, u, v, a14)) : ∃ n, wX_mount_61 post (nI q) c d m s n 0 a1 a2 a3 a4 a5 a6 a7 a8 a9 a10 a11 a12 a13 a14 := by
  refine pk_loop (σ := (Nat → Int32) × (Nat → Int32)) (fun n i x => wX_mount_61 post (nI q) c d m s n (nI i) a1 a2 a3 a4 a5 a6 a7 a8 a9 a10 x.1 a12 x.2 a14) (fun i x => ∀ g, g < i → x.1 g = a9 (q * 6 + g)) 6 0 (a11, a13) (by omega) (fun g hg => absurd hg (by omega)) ?_ ?_
  · intro n x hx
    obtain ⟨x, v⟩ := x
    exact pk_le 6 6 (fun _ => ⟨pk_in q 2 hq, nm_r (e' := nI b) (by rw [nI_clamp (by omega), h10]) (nt_mt114 hb h5 (fun u => H x u v hx))⟩) (fun z => absurd z (by omega))
  · intro n i x hi hx hw
    obtain ⟨x, v⟩ := x
    have hx : ∀ g, g < i → x g = a9 (q * 6 + g) := hx
    exact pk_le 6 i (fun z => absurd z (by omega)) (fun _ => ⟨pk_in (q * 6 + i) 12 (by omega) (nt_ix6 q i), pk_in i 6 hi, nm_r (e' := upd x i (a9 (q * 6 + i))) (by rw [nt_ix6, nI_clamp (by omega), nI_clamp (by omega)]) ⟨pk_in i 6 hi, fun v' _ => nm_r (nI_1 i) (hw (upd x i (a9 (q * 6 + i)), v') (nt_fill0 (g := fun g => a9 (q * 6 + g)) hx rfl))⟩⟩)
theorem nt_mt49 {post : St2 → Prop} {q b : Nat} {M : Int32} (hq : q < 2) (h8 : a8 q = M) (h10 : a10 q = nI b) (hb : b < 128) (h5 : ¬ a5 b = M)
    (H : ∀ x u v, (∀ g, g < 6 → x g = a9 (q * 6 + g)) → post (nI b, 0, M, s, a1, a2, a3, a4, a5, a6, a7, a8, a9, a10, x, u, v, a14)) : wX_mount_49 post (nI q) c d m s a1 a2 a3 a4 a5 a6 a7 a8 a9 a10 a11 a12 a13 a14 :=
  ⟨pk_in q 2 hq, nm_r (e' := M) (by rw [nI_clamp (by omega), h8]) (nt_mt61 hq h10 hb h5 H)⟩
theorem nt_count {post : Int32 → Prop} {f : Nat} (h : ∀ g, g < 6 → (a11 g = -1 ↔ g ≠ f)) (H : post (nI (if f < 6 then 1 else 0))) : wpX_count post (c, d, m, s, a1, a2, a3, a4, a5, a6, a7, a8, a9, a10, a11, a12, a13, a14) := by
  refine pk_loop (σ := Unit) (fun n i _ => wX_count_4 post c d m s a1 a2 a3 a4 a5 a6 a7 a8 a9 a10 a11 a12 a13 a14 n (nI (if f < i then 1 else 0)) (nI i)) (fun _ _ => True) 6 0 () (by omega) trivial ?_ ?_
  · intro n _ _
    exact pk_le 6 6 (fun _ => H) (fun z => absurd z (by omega))
  · intro n i _ hi _ hw
    have W := hw () trivial
    have hi' := h i hi
    refine pk_le 6 i (fun z => absurd z (by omega)) (fun _ => ⟨pk_in i 6 hi, br_c (fun e => nm_r (nI_1 i) ?_) (fun e => nm_r (nI_1 _) (nm_r (nI_1 i) ?_))⟩)
    · rw [nI_clamp (by omega)] at e
      have e' := hi'.mp e
      rw [show (if f < i then 1 else 0) = (if f < i + 1 then 1 else 0) by split <;> split <;> omega]
      exact W
    · rw [nI_clamp (by omega)] at e
      have e' : i = f := Decidable.byContradiction (fun g => e (hi'.mpr g))
      rw [show (if f < i then 1 else 0) + 1 = (if f < i + 1 then 1 else 0) by split <;> split <;> omega]
      exact W
/-- crash: the pack q is the newer whole one, nothing is chained behind it -/
theorem nt_crash1 {post : Int32 → St2 → Prop} {b f : Nat} {M r : Int32} (hr : nI (if f < 6 then 1 else 0) = r) (h7 : a7 1 = a8 1) (h70 : a7 0 = a8 0) (h81 : ¬ a8 1 ≤ a8 0) (h8 : a8 1 = M) (h10 : a10 1 = nI b) (hb : b < 128) (h5 : ¬ a5 b = M)
    (h : ∀ g, g < 6 → (a9 (1 * 6 + g) = -1 ↔ g ≠ f)) (H : ∀ (c d m s : Int32) (b1 b2 b3 b4 b5 b6 b7 b8 b9 b10 b11 b12 b13 b14 : Nat → Int32), post r (c, d, m, s, b1, b2, b3, b4, b5, b6, b7, b8, b9, b10, b11, b12, b13, b14)) : wpX_crash post (c, d, m, s, a1, a2, a3, a4, a5, a6, a7, a8, a9, a10, a11, a12, a13, a14) :=
  br_t h7 (br_t h70 (br_f h81 (nt_mt49 (q := 1) (by decide) h8 h10 hb h5 (fun x u v hx => nt_count (f := f) (fun g hg => by rw [hx g hg]; exact h g hg) (by rw [hr]; exact H _ _ _ _ _ _ _ _ _ _ _ _ _ _ _ _ _ _)))))
theorem nt_crash0 {post : Int32 → St2 → Prop} {b f : Nat} {M r : Int32} (hr : nI (if f < 6 then 1 else 0) = r) (h7 : a7 1 = a8 1) (h70 : a7 0 = a8 0) (h81 : a8 1 ≤ a8 0) (h8 : a8 0 = M) (h10 : a10 0 = nI b) (hb : b < 128) (h5 : ¬ a5 b = M)
    (h : ∀ g, g < 6 → (a9 (0 * 6 + g) = -1 ↔ g ≠ f)) (H : ∀ (c d m s : Int32) (b1 b2 b3 b4 b5 b6 b7 b8 b9 b10 b11 b12 b13 b14 : Nat → Int32), post r (c, d, m, s, b1, b2, b3, b4, b5, b6, b7, b8, b9, b10, b11, b12, b13, b14)) : wpX_crash post (c, d, m, s, a1, a2, a3, a4, a5, a6, a7, a8, a9, a10, a11, a12, a13, a14) :=
  br_t h7 (br_t h70 (br_t h81 (nt_mt49 (q := 0) (by decide) h8 h10 hb h5 (fun x u v hx => nt_count (f := f) (fun g hg => by rw [hx g hg]; exact h g hg) (by rw [hr]; exact H _ _ _ _ _ _ _ _ _ _ _ _ _ _ _ _ _ _)))))
end
end
section
/-! ===== the law ===== -/
section
variable {c s : Int32} {a1 a2 a3 a4 a5 a6 a7 a8 a9 a10 a11 a12 a13 a14 : Nat → Int32} {f k t : Nat} {x : Int32}
/-- what truncate may answer at size t -/
def nt_R (n z r : Int32) : Prop := (n < 0 ∧ r = -1) ∨ (¬ n < 0 ∧ z < n ∧ r = -1) ∨ (¬ n < 0 ∧ ¬ z < n ∧ r = z)
theorem nt_truncA {post : Int32 → St2 → Prop} {n z : Int32} (hz : nI t = z) (q : nt_Q f k t x c s a1 a3 a4 a9 a11 a12 a13)
    (H : ∀ r t k s b2 b3 b4 b5 b11 b14, nt_R n z r → nt_Q f k t x c s a1 b3 b4 a9 b11 a12 a13 → post r (c, 0, 1, s, a1, b2, b3, b4, b5, a6, a7, a8, a9, a10, b11, a12, a13, b14)) :
    wpX_truncate post (c, 0, 1, s, a1, a2, a3, a4, a5, a6, a7, a8, a9, a10, a11, a12, a13, a14) (nI f) n := by
  have ht : t ≤ 1 := q.2.2.2.2.2.2.2.1
  subst hz
  by_cases h0 : n < 0
  · exact nt_truncN (Or.inl h0) q (H (-1) t k s a2 a3 a4 a5 a11 a14 (Or.inl ⟨h0, rfl⟩) q)
  · obtain ⟨j, hj, rfl⟩ := nI_of h0
    by_cases h1 : j ≤ t
    · exact nt_trunc h1 q (fun k s b2 b3 b4 b5 b11 b14 q' => H (nI t) j k s b2 b3 b4 b5 b11 b14 (Or.inr (Or.inr ⟨h0, nI_nlt h1 (by omega), rfl⟩)) q')
    · exact nt_truncN (Or.inr (nI_ge (by omega) hj)) q (H (-1) t k s a2 a3 a4 a5 a11 a14 (Or.inr (Or.inl ⟨h0, nI_lt (by omega) hj, rfl⟩)) q)
theorem nt_Q9 {z : Nat → Int32} (q : nt_Q f k t x c s a1 a3 a4 a9 a11 a12 a13) (hz : ∀ g, g < 6 → z (0 * 6 + g) = a11 g) : ∀ g, g < 6 → (z (0 * 6 + g) = -1 ↔ g ≠ f) := by
  obtain ⟨hc, hs, h9, h12, h11, hf, hk, ht, e11, e3, e4, h13⟩ := q
  intro g hg
  rw [hz g hg]
  refine ⟨fun e e' => ?_, h11 g hg⟩
  rw [e', e11] at e
  exact absurd e (nt_ne1 (by omega))
end
section
variable {mc ms kc ks : Nat} {i v n r : Int32}
theorem nt_lO : wL_lawOf_73 (fun r _ => r = 1) mc ms i v n (-1) (-1) 0 (-1) (-1) 0 kc ks :=
  br_t rfl (br_t rfl (br_t rfl (br_t rfl (br_t rfl (br_t rfl (br_t rfl (br_t rfl (br_t rfl (br_t rfl (br_t rfl (br_t rfl (br_t rfl (br_t rfl rfl)))))))))))))
theorem nt_l172 {z : Int32} : wL_lawOf_172 (fun r _ => r = 1) mc ms 1 1 1 z z kc ks :=
  br_t rfl (br_f (by decide) (br_t rfl (br_f (by decide) (br_t rfl rfl))))
theorem nt_l146 {z w w' : Int32} (hw : w' = w) (h : nt_R n z r) : wL_lawOf_146 (fun r _ => r = 1) mc ms n r 1 1 1 z w w' kc ks := by
  refine br_t hw (br_f (by decide) ?_)
  rcases h with ⟨h1, h2⟩ | ⟨h1, h2, h3⟩ | ⟨h1, h2, h3⟩
  · subst h2
    exact br_t h1 nt_l172
  · subst h3
    exact br_f h1 (br_t h2 nt_l172)
  · subst h3
    exact br_f h1 (br_f h2 nt_l172)
theorem nt_l1 (h : nt_R n 1 r) : wL_lawOf_74 (fun r _ => r = 1) mc ms 0 v n 0 1 v r 1 1 1 kc ks :=
  br_f (by decide) (br_t rfl (br_f (by decide) (br_f (by decide) (br_t rfl (br_f (by decide) (br_t rfl (br_f (by decide) (nt_l146 rfl h))))))))
theorem nt_l0 (hi : ¬ i = 0) (h : nt_R n 0 r) : wL_lawOf_74 (fun r _ => r = 1) mc ms i v n 0 (-1) 0 r 1 1 1 kc ks :=
  br_f (by decide) (br_f hi (br_t rfl (br_f (by decide) (br_t rfl (br_t rfl (br_t rfl (br_t rfl (nt_l146 rfl h))))))))
end
theorem nt_cell {post : Int32 → Prop} {L : Nat} {xs : Nat → Int32} {j : Nat} (hL : L ≤ 4) (hj : j < 4) (H : ∀ r, post r) : wpL_cellAt post L xs () (nI j) :=
  pk_le L j (fun _ => H 0) (fun z => ⟨pk_in j L z, H _⟩)
section
variable {c d m s : Int32} {a1 a2 a3 a4 a5 a6 a7 a8 a9 a10 a11 a12 a13 a14 : Nat → Int32} {p0 i v n : Int32}
theorem nt_createO {post : Int32 → St2 → Prop} (h : p0 < 0 ∨ ¬ p0 < 6) (H : post (-1) (c, d, m, s, a1, a2, a3, a4, a5, a6, a7, a8, a9, a10, a11, a12, a13, a14)) : wpX_create post (c, d, m, s, a1, a2, a3, a4, a5, a6, a7, a8, a9, a10, a11, a12, a13, a14) p0 := by
  unfold wpX_create
  refine nt_badO h ?_
  exact br_f (by decide) H
theorem nt_writeO {post : Int32 → St2 → Prop} (h : p0 < 0 ∨ ¬ p0 < 6) (H : post (-1) (c, d, m, s, a1, a2, a3, a4, a5, a6, a7, a8, a9, a10, a11, a12, a13, a14)) : wpX_write post (c, d, m, s, a1, a2, a3, a4, a5, a6, a7, a8, a9, a10, a11, a12, a13, a14) p0 i v := by
  unfold wpX_write
  refine nt_badO h ?_
  exact br_f (by decide) H
theorem nt_readO {post : Int32 → Prop} (h : p0 < 0 ∨ ¬ p0 < 6) (H : post 0) : wpX_read post (c, d, m, s, a1, a2, a3, a4, a5, a6, a7, a8, a9, a10, a11, a12, a13, a14) p0 i := by
  unfold wpX_read
  refine nt_badO h ?_
  exact br_f (by decide) H
theorem nt_truncateO {post : Int32 → St2 → Prop} (h : p0 < 0 ∨ ¬ p0 < 6) (H : post (-1) (c, d, m, s, a1, a2, a3, a4, a5, a6, a7, a8, a9, a10, a11, a12, a13, a14)) : wpX_truncate post (c, d, m, s, a1, a2, a3, a4, a5, a6, a7, a8, a9, a10, a11, a12, a13, a14) p0 n := by
  unfold wpX_truncate
  refine nt_badO h ?_
  exact br_f (by decide) H
theorem nt_fsyncO {post : Int32 → St2 → Prop} (h : p0 < 0 ∨ ¬ p0 < 6) (H : post (-1) (c, d, m, s, a1, a2, a3, a4, a5, a6, a7, a8, a9, a10, a11, a12, a13, a14)) : wpX_fsync post (c, d, m, s, a1, a2, a3, a4, a5, a6, a7, a8, a9, a10, a11, a12, a13, a14) p0 := by
  unfold wpX_fsync
  refine nt_badO h ?_
  exact br_f (by decide) H
end
/-- a file that isn't there to be had -/
theorem nt_out {p0 i v n : Int32} (h : p0 < 0 ∨ ¬ p0 < 6) (h5 : ¬ p0 < 0 → 5 < p0) : wpL_lawOf (fun r _ => r = 1) 648 10352 () p0 i v n := by
  refine ⟨by omega, by omega, 14, 1316, by omega, by omega, nt_init (by omega) (by omega) (fun b k y z u w x a hb hk h9 h11 h12 => ?_)⟩
  refine nt_createO h (nt_writeO h (nt_readO h (nt_truncateO h (nt_fsyncO h ?_))))
  refine nt_crash1 (f := 6) (b := b) (M := 1) (r := 0) (by decide) rfl rfl (by decide) pk_us pk_us hb (by rw [pk_us]; decide) (fun g hg => ⟨fun _ => by omega, fun _ => h9 g hg⟩) (fun _ _ _ _ _ _ _ _ _ _ _ _ _ _ _ _ _ _ => ?_)
  exact br_c (fun _ => nt_lO) (fun g => br_t (h5 g) nt_lO)
/-- one of the six files -/
theorem nt_in {f : Nat} {i v n : Int32} (hf : f < 6) : wpL_lawOf (fun r _ => r = 1) 648 10352 () (nI f) i v n := by
  refine ⟨by omega, by omega, 14, 1316, by omega, by omega, nt_init (by omega) (by omega) (fun b k y z u w x a hb hk h9 h11 h12 => ?_)⟩
  have h5 : ¬ (5 : Int32) < nI f := nI_nlt (a := 5) (b := f) (by omega) (by decide)
  refine nt_create (x := v) hf (Or.inr (pk_in b 128 hb)) ⟨k, hk, rfl⟩ h9 h11 h12 (fun k s b2 b3 b4 b5 b11 b13 b14 q => ?_)
  by_cases hi : i = 0
  · subst hi
    refine nt_write q (fun k s b1 b2 b3 b4 b5 b11 b14 q => nt_read (r := v) q (fun z => absurd z (by decide)) (fun _ => rfl) (nt_truncA (z := 1) rfl q (fun r t k s b2 b3 b4 b5 b11 b14 hr q => nt_fsync q (fun b j y z u w hb hj hz => ?_))))
    refine nt_crash0 (f := f) (b := b) (M := 2) (r := 1) (by rw [if_pos hf]; rfl) rfl rfl (by decide) pk_us pk_us hb (by rw [pk_us]; decide) (nt_Q9 q hz) (fun _ _ _ _ _ _ _ _ _ _ _ _ _ _ _ _ _ _ => ?_)
    exact br_f (nI_pos (by omega)) (br_f h5 (nt_l1 hr))
  · refine nt_writeN hi q (nt_read (r := 0) q (fun _ => rfl) (fun z => absurd z (by decide)) (nt_truncA (z := 0) rfl q (fun r t k s b2 b3 b4 b5 b11 b14 hr q => nt_fsync q (fun b j y z u w hb hj hz => ?_))))
    refine nt_crash0 (f := f) (b := b) (M := 2) (r := 1) (by rw [if_pos hf]; rfl) rfl rfl (by decide) pk_us pk_us hb (by rw [pk_us]; decide) (nt_Q9 q hz) (fun _ _ _ _ _ _ _ _ _ _ _ _ _ _ _ _ _ _ => ?_)
    exact br_f (nI_pos (by omega)) (br_f h5 (nt_l0 hi hr))
theorem nt_lawOf (p0 i v n : Int32) : wpL_lawOf (fun r _ => r = 1) 648 10352 () p0 i v n := by
  by_cases h0 : p0 < 0
  · exact nt_out (Or.inl h0) (fun g => absurd h0 g)
  · obtain ⟨j, hj, rfl⟩ := nI_of h0
    by_cases h6 : j < 6
    · exact nt_in h6
    · exact nt_out (Or.inr (nI_nlt (b := 6) (by omega) hj)) (fun _ => nI_lt (a := 5) (by omega) hj)
theorem i_vc (xs : Nat → Int32) (L : Nat) (hL : L ≤ 4) : wpL_law (fun r => r = 1) L xs :=
  nt_cell (j := 0) hL (by decide) (fun r1 => nt_cell (j := 1) hL (by decide) (fun r2 => nt_cell (j := 2) hL (by decide) (fun r3 => nt_cell (j := 3) hL (by decide) (fun r4 => ⟨648, 10352, by omega, by omega, nt_lawOf r1 r2 r3 r4⟩))))
end
