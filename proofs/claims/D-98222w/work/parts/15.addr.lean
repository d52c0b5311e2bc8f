/-! ===== the two objects and what they hold from the start on: 400 the class, 539 the reference ===== -/
set_option maxRecDepth 100000
def ptL : List (Int × Int × Int) := [(539, 2, 43), (540, (-1), 3642), (541, (-1), 3642), (542, (-1), 2820), (543, (-1), 300), (544, (-1), 160), (545, (-1), 15), (546, (-3), 330), (547, (-4), 330), (548, (-4), 100), (549, (-1), 10), (550, (-3), 501), (551, (-1), 4320), (552, (-1), 1440), (553, (-4), 720), (554, (-1), 10), (555, (-1), 6), (556, (-1), 720), (557, (-1), 720), (558, (-1), 720), (559, (-1), 720), (560, (-1), 10), (561, (-1), 10), (400, 0, 20), (401, 1, 7), (402, (-1), 6), (403, (-1), 3), (404, (-1), 287), (405, (-5), 10), (406, (-1), 5), (407, (-1), 5), (408, (-1), 5), (409, (-1), 5), (410, (-1), 5), (411, (-1), 5), (412, (-1), 5), (413, (-1), 5), (414, (-1), 5), (415, (-1), 5), (416, (-5), 12), (417, (-1), 4), (418, (-1), 4), (419, (-1), 4), (420, (-1), 4), (421, (-1), 4), (422, (-1), 4), (423, (-1), 4), (424, (-1), 4), (425, (-1), 4), (426, (-1), 4), (427, (-1), 4), (428, (-1), 4), (429, (-5), 30), (430, (-1), 287), (431, (-1), 287), (432, (-1), 287), (433, (-1), 287), (434, (-1), 287), (435, (-1), 287), (436, (-1), 287), (437, (-1), 287), (438, (-1), 287), (439, (-1), 287), (440, (-1), 287), (441, (-1), 287), (442, (-1), 287), (443, (-1), 287), (444, (-1), 287), (445, (-1), 287), (446, (-1), 287), (447, (-1), 287), (448, (-1), 287), (449, (-1), 287), (450, (-1), 287), (451, (-1), 287), (452, (-1), 287), (453, (-1), 287), (454, (-1), 287), (455, (-1), 287), (456, (-1), 287), (457, (-1), 287), (458, (-1), 287), (459, (-1), 287), (460, (-6), 4), (461, 1, 7), (462, (-1), 6), (463, (-1), 3), (464, (-1), 287), (465, (-5), 10), (466, (-1), 5), (467, (-1), 5), (468, (-1), 5), (469, (-1), 5), (470, (-1), 5), (471, (-1), 5), (472, (-1), 5), (473, (-1), 5), (474, (-1), 5), (475, (-1), 5), (476, (-5), 12), (477, (-1), 4), (478, (-1), 4), (479, (-1), 4), (480, (-1), 4), (481, (-1), 4), (482, (-1), 4), (483, (-1), 4), (484, (-1), 4), (485, (-1), 4), (486, (-1), 4), (487, (-1), 4), (488, (-1), 4), (489, (-5), 30), (490, (-1), 287), (491, (-1), 287), (492, (-1), 287), (493, (-1), 287), (494, (-1), 287), (495, (-1), 287), (496, (-1), 287), (497, (-1), 287), (498, (-1), 287), (499, (-1), 287), (500, (-1), 287), (501, (-1), 287), (502, (-1), 287), (503, (-1), 287), (504, (-1), 287), (505, (-1), 287), (506, (-1), 287), (507, (-1), 287), (508, (-1), 287), (509, (-1), 287), (510, (-1), 287), (511, (-1), 287), (512, (-1), 287), (513, (-1), 287), (514, (-1), 287), (515, (-1), 287), (516, (-1), 287), (517, (-1), 287), (518, (-1), 287), (519, (-1), 287), (520, (-6), 4), (521, (-2), 300), (522, (-1), 15), (523, (-1), 10), (524, (-1), 10), (525, (-3), 501), (526, (-1), 6), (527, (-1), 6), (528, (-1), 720), (529, (-1), 720), (530, (-5), 6), (531, (-1), 5), (532, (-1), 5), (533, (-1), 5), (534, (-1), 5), (535, (-1), 5), (536, (-1), 5), (537, (-1), 10), (538, (-1), 10)]
def pvL : List (Int × Int × Int) := [(539, 0, 540), (539, 1, 541), (539, 2, 542), (539, 3, 543), (539, 16, 544), (539, 22, 545), (539, 23, 546), (539, 24, 547), (539, 26, 548), (539, 27, 549), (539, 29, 550), (539, 30, 551), (539, 31, 552), (539, 32, 553), (539, 33, 554), (539, 36, 555), (539, 37, 556), (539, 38, 557), (539, 39, 558), (539, 40, 559), (539, 41, 560), (539, 42, 561), (401, 0, 402), (401, 1, 403), (401, 2, 404), (401, 3, 405), (401, 4, 416), (401, 5, 429), (401, 6, 460), (405, 0, 406), (405, 1, 407), (405, 2, 408), (405, 3, 409), (405, 4, 410), (405, 5, 411), (405, 6, 412), (405, 7, 413), (405, 8, 414), (405, 9, 415), (416, 0, 417), (416, 1, 418), (416, 2, 419), (416, 3, 420), (416, 4, 421), (416, 5, 422), (416, 6, 423), (416, 7, 424), (416, 8, 425), (416, 9, 426), (416, 10, 427), (416, 11, 428), (429, 0, 430), (429, 1, 431), (429, 2, 432), (429, 3, 433), (429, 4, 434), (429, 5, 435), (429, 6, 436), (429, 7, 437), (429, 8, 438), (429, 9, 439), (429, 10, 440), (429, 11, 441), (429, 12, 442), (429, 13, 443), (429, 14, 444), (429, 15, 445), (429, 16, 446), (429, 17, 447), (429, 18, 448), (429, 19, 449), (429, 20, 450), (429, 21, 451), (429, 22, 452), (429, 23, 453), (429, 24, 454), (429, 25, 455), (429, 26, 456), (429, 27, 457), (429, 28, 458), (429, 29, 459), (461, 0, 462), (461, 1, 463), (461, 2, 464), (461, 3, 465), (461, 4, 476), (461, 5, 489), (461, 6, 520), (465, 0, 466), (465, 1, 467), (465, 2, 468), (465, 3, 469), (465, 4, 470), (465, 5, 471), (465, 6, 472), (465, 7, 473), (465, 8, 474), (465, 9, 475), (476, 0, 477), (476, 1, 478), (476, 2, 479), (476, 3, 480), (476, 4, 481), (476, 5, 482), (476, 6, 483), (476, 7, 484), (476, 8, 485), (476, 9, 486), (476, 10, 487), (476, 11, 488), (489, 0, 490), (489, 1, 491), (489, 2, 492), (489, 3, 493), (489, 4, 494), (489, 5, 495), (489, 6, 496), (489, 7, 497), (489, 8, 498), (489, 9, 499), (489, 10, 500), (489, 11, 501), (489, 12, 502), (489, 13, 503), (489, 14, 504), (489, 15, 505), (489, 16, 506), (489, 17, 507), (489, 18, 508), (489, 19, 509), (489, 20, 510), (489, 21, 511), (489, 22, 512), (489, 23, 513), (489, 24, 514), (489, 25, 515), (489, 26, 516), (489, 27, 517), (489, 28, 518), (489, 29, 519), (400, 0, 401), (400, 1, 461), (400, 2, 521), (400, 6, 522), (400, 7, 523), (400, 8, 524), (400, 9, 525), (400, 11, 526), (400, 12, 527), (400, 15, 528), (400, 16, 529), (400, 17, 530), (400, 18, 537), (400, 19, 538), (530, 0, 531), (530, 1, 532), (530, 2, 533), (530, 3, 534), (530, 4, 535), (530, 5, 536)]
/-- the lasting cells' types -/
def PT (T : jjT) : Prop := 562 ≤ T.2 ∧ ∀ q ∈ ptL, T.1 q.1 = (q.2.1, q.2.2)
/-- the lasting references -/
def PV (v : Int → Int → Int) : Prop := ∀ q ∈ pvL, v q.1 q.2.1 = q.2.2
theorem ptL_in : ∀ q ∈ ptL, 400 ≤ q.1 ∧ q.1 < 562 := by decide +kernel
theorem PT.ok {T : jjT} (h : PT T) (a c n : Int) (hm : (a, c, n) ∈ ptL) : jok T a c := by
  have h2 := ptL_in _ hm
  have h3 := h.2 _ hm
  have h1 := h.1
  dsimp only at h2 h3
  exact ⟨by omega, by omega, by rw [h3]⟩
theorem PT.ln {T : jjT} (h : PT T) (a c n : Int) (hm : (a, c, n) ∈ ptL) : jln T a = n := by
  have h3 := h.2 _ hm
  dsimp only at h3
  unfold jln
  rw [h3]
theorem PV.up {v : Int → Int → Int} (h : PV v) (a k z : Int) (hn : ∀ q ∈ pvL, ¬ (q.1 = a ∧ q.2.1 = k)) : PV (up2 v a k z) := by
  intro q hq
  unfold up2
  rw [if_neg (hn q hq)]
  exact h q hq
def pvA : List Int := [539, 400, 401, 405, 416, 429, 461, 465, 476, 489, 530]
theorem pvL_A : ∀ q ∈ pvL, q.1 ∈ pvA := by decide +kernel
/-- a store into an array of numbers -/
theorem PV.arr {v : Int → Int → Int} (h : PV v) (a k z : Int) (hn : a ∉ pvA) : PV (up2 v a k z) := h.up a k z (fun q hq e => hn (e.1 ▸ pvL_A q hq))
theorem PV.fr {v w : Int → Int → Int} (h : PV v) (hw : ∀ a ∈ pvA, w a = v a) : PV w := fun q hq => by rw [hw q.1 (pvL_A q hq)]; exact h q hq
theorem PV.fr2 {v w : Int → Int → Int} (h : PV v) (hw : ∀ q ∈ pvL, w q.1 q.2.1 = v q.1 q.2.1) : PV w := fun q hq => by rw [hw q hq]; exact h q hq
theorem pt_539 {T : jjT} (h : PT T) : jok T 539 2 := h.ok 539 2 43 (by decide +kernel)
theorem pl_539 {T : jjT} (h : PT T) : jln T 539 = 43 := h.ln 539 2 43 (by decide +kernel)
theorem pt_540 {T : jjT} (h : PT T) : jok T 540 (-1) := h.ok 540 (-1) 3642 (by decide +kernel)
theorem pl_540 {T : jjT} (h : PT T) : jln T 540 = 3642 := h.ln 540 (-1) 3642 (by decide +kernel)
theorem pt_541 {T : jjT} (h : PT T) : jok T 541 (-1) := h.ok 541 (-1) 3642 (by decide +kernel)
theorem pl_541 {T : jjT} (h : PT T) : jln T 541 = 3642 := h.ln 541 (-1) 3642 (by decide +kernel)
theorem pt_542 {T : jjT} (h : PT T) : jok T 542 (-1) := h.ok 542 (-1) 2820 (by decide +kernel)
theorem pl_542 {T : jjT} (h : PT T) : jln T 542 = 2820 := h.ln 542 (-1) 2820 (by decide +kernel)
theorem pt_543 {T : jjT} (h : PT T) : jok T 543 (-1) := h.ok 543 (-1) 300 (by decide +kernel)
theorem pl_543 {T : jjT} (h : PT T) : jln T 543 = 300 := h.ln 543 (-1) 300 (by decide +kernel)
theorem pt_544 {T : jjT} (h : PT T) : jok T 544 (-1) := h.ok 544 (-1) 160 (by decide +kernel)
theorem pl_544 {T : jjT} (h : PT T) : jln T 544 = 160 := h.ln 544 (-1) 160 (by decide +kernel)
theorem pt_545 {T : jjT} (h : PT T) : jok T 545 (-1) := h.ok 545 (-1) 15 (by decide +kernel)
theorem pl_545 {T : jjT} (h : PT T) : jln T 545 = 15 := h.ln 545 (-1) 15 (by decide +kernel)
theorem pt_546 {T : jjT} (h : PT T) : jok T 546 (-3) := h.ok 546 (-3) 330 (by decide +kernel)
theorem pl_546 {T : jjT} (h : PT T) : jln T 546 = 330 := h.ln 546 (-3) 330 (by decide +kernel)
theorem pt_547 {T : jjT} (h : PT T) : jok T 547 (-4) := h.ok 547 (-4) 330 (by decide +kernel)
theorem pl_547 {T : jjT} (h : PT T) : jln T 547 = 330 := h.ln 547 (-4) 330 (by decide +kernel)
theorem pt_548 {T : jjT} (h : PT T) : jok T 548 (-4) := h.ok 548 (-4) 100 (by decide +kernel)
theorem pl_548 {T : jjT} (h : PT T) : jln T 548 = 100 := h.ln 548 (-4) 100 (by decide +kernel)
theorem pt_549 {T : jjT} (h : PT T) : jok T 549 (-1) := h.ok 549 (-1) 10 (by decide +kernel)
theorem pl_549 {T : jjT} (h : PT T) : jln T 549 = 10 := h.ln 549 (-1) 10 (by decide +kernel)
theorem pt_550 {T : jjT} (h : PT T) : jok T 550 (-3) := h.ok 550 (-3) 501 (by decide +kernel)
theorem pl_550 {T : jjT} (h : PT T) : jln T 550 = 501 := h.ln 550 (-3) 501 (by decide +kernel)
theorem pt_551 {T : jjT} (h : PT T) : jok T 551 (-1) := h.ok 551 (-1) 4320 (by decide +kernel)
theorem pl_551 {T : jjT} (h : PT T) : jln T 551 = 4320 := h.ln 551 (-1) 4320 (by decide +kernel)
theorem pt_552 {T : jjT} (h : PT T) : jok T 552 (-1) := h.ok 552 (-1) 1440 (by decide +kernel)
theorem pl_552 {T : jjT} (h : PT T) : jln T 552 = 1440 := h.ln 552 (-1) 1440 (by decide +kernel)
theorem pt_553 {T : jjT} (h : PT T) : jok T 553 (-4) := h.ok 553 (-4) 720 (by decide +kernel)
theorem pl_553 {T : jjT} (h : PT T) : jln T 553 = 720 := h.ln 553 (-4) 720 (by decide +kernel)
theorem pt_554 {T : jjT} (h : PT T) : jok T 554 (-1) := h.ok 554 (-1) 10 (by decide +kernel)
theorem pl_554 {T : jjT} (h : PT T) : jln T 554 = 10 := h.ln 554 (-1) 10 (by decide +kernel)
theorem pt_555 {T : jjT} (h : PT T) : jok T 555 (-1) := h.ok 555 (-1) 6 (by decide +kernel)
theorem pl_555 {T : jjT} (h : PT T) : jln T 555 = 6 := h.ln 555 (-1) 6 (by decide +kernel)
theorem pt_556 {T : jjT} (h : PT T) : jok T 556 (-1) := h.ok 556 (-1) 720 (by decide +kernel)
theorem pl_556 {T : jjT} (h : PT T) : jln T 556 = 720 := h.ln 556 (-1) 720 (by decide +kernel)
theorem pt_557 {T : jjT} (h : PT T) : jok T 557 (-1) := h.ok 557 (-1) 720 (by decide +kernel)
theorem pl_557 {T : jjT} (h : PT T) : jln T 557 = 720 := h.ln 557 (-1) 720 (by decide +kernel)
theorem pt_558 {T : jjT} (h : PT T) : jok T 558 (-1) := h.ok 558 (-1) 720 (by decide +kernel)
theorem pl_558 {T : jjT} (h : PT T) : jln T 558 = 720 := h.ln 558 (-1) 720 (by decide +kernel)
theorem pt_559 {T : jjT} (h : PT T) : jok T 559 (-1) := h.ok 559 (-1) 720 (by decide +kernel)
theorem pl_559 {T : jjT} (h : PT T) : jln T 559 = 720 := h.ln 559 (-1) 720 (by decide +kernel)
theorem pt_560 {T : jjT} (h : PT T) : jok T 560 (-1) := h.ok 560 (-1) 10 (by decide +kernel)
theorem pl_560 {T : jjT} (h : PT T) : jln T 560 = 10 := h.ln 560 (-1) 10 (by decide +kernel)
theorem pt_561 {T : jjT} (h : PT T) : jok T 561 (-1) := h.ok 561 (-1) 10 (by decide +kernel)
theorem pl_561 {T : jjT} (h : PT T) : jln T 561 = 10 := h.ln 561 (-1) 10 (by decide +kernel)
theorem pt_400 {T : jjT} (h : PT T) : jok T 400 0 := h.ok 400 0 20 (by decide +kernel)
theorem pl_400 {T : jjT} (h : PT T) : jln T 400 = 20 := h.ln 400 0 20 (by decide +kernel)
theorem pt_401 {T : jjT} (h : PT T) : jok T 401 1 := h.ok 401 1 7 (by decide +kernel)
theorem pl_401 {T : jjT} (h : PT T) : jln T 401 = 7 := h.ln 401 1 7 (by decide +kernel)
theorem pt_402 {T : jjT} (h : PT T) : jok T 402 (-1) := h.ok 402 (-1) 6 (by decide +kernel)
theorem pl_402 {T : jjT} (h : PT T) : jln T 402 = 6 := h.ln 402 (-1) 6 (by decide +kernel)
theorem pt_403 {T : jjT} (h : PT T) : jok T 403 (-1) := h.ok 403 (-1) 3 (by decide +kernel)
theorem pl_403 {T : jjT} (h : PT T) : jln T 403 = 3 := h.ln 403 (-1) 3 (by decide +kernel)
theorem pt_404 {T : jjT} (h : PT T) : jok T 404 (-1) := h.ok 404 (-1) 287 (by decide +kernel)
theorem pl_404 {T : jjT} (h : PT T) : jln T 404 = 287 := h.ln 404 (-1) 287 (by decide +kernel)
theorem pt_405 {T : jjT} (h : PT T) : jok T 405 (-5) := h.ok 405 (-5) 10 (by decide +kernel)
theorem pl_405 {T : jjT} (h : PT T) : jln T 405 = 10 := h.ln 405 (-5) 10 (by decide +kernel)
theorem pt_416 {T : jjT} (h : PT T) : jok T 416 (-5) := h.ok 416 (-5) 12 (by decide +kernel)
theorem pl_416 {T : jjT} (h : PT T) : jln T 416 = 12 := h.ln 416 (-5) 12 (by decide +kernel)
theorem pt_429 {T : jjT} (h : PT T) : jok T 429 (-5) := h.ok 429 (-5) 30 (by decide +kernel)
theorem pl_429 {T : jjT} (h : PT T) : jln T 429 = 30 := h.ln 429 (-5) 30 (by decide +kernel)
theorem pt_460 {T : jjT} (h : PT T) : jok T 460 (-6) := h.ok 460 (-6) 4 (by decide +kernel)
theorem pl_460 {T : jjT} (h : PT T) : jln T 460 = 4 := h.ln 460 (-6) 4 (by decide +kernel)
theorem pt_461 {T : jjT} (h : PT T) : jok T 461 1 := h.ok 461 1 7 (by decide +kernel)
theorem pl_461 {T : jjT} (h : PT T) : jln T 461 = 7 := h.ln 461 1 7 (by decide +kernel)
theorem pt_462 {T : jjT} (h : PT T) : jok T 462 (-1) := h.ok 462 (-1) 6 (by decide +kernel)
theorem pl_462 {T : jjT} (h : PT T) : jln T 462 = 6 := h.ln 462 (-1) 6 (by decide +kernel)
theorem pt_463 {T : jjT} (h : PT T) : jok T 463 (-1) := h.ok 463 (-1) 3 (by decide +kernel)
theorem pl_463 {T : jjT} (h : PT T) : jln T 463 = 3 := h.ln 463 (-1) 3 (by decide +kernel)
theorem pt_464 {T : jjT} (h : PT T) : jok T 464 (-1) := h.ok 464 (-1) 287 (by decide +kernel)
theorem pl_464 {T : jjT} (h : PT T) : jln T 464 = 287 := h.ln 464 (-1) 287 (by decide +kernel)
theorem pt_465 {T : jjT} (h : PT T) : jok T 465 (-5) := h.ok 465 (-5) 10 (by decide +kernel)
theorem pl_465 {T : jjT} (h : PT T) : jln T 465 = 10 := h.ln 465 (-5) 10 (by decide +kernel)
theorem pt_476 {T : jjT} (h : PT T) : jok T 476 (-5) := h.ok 476 (-5) 12 (by decide +kernel)
theorem pl_476 {T : jjT} (h : PT T) : jln T 476 = 12 := h.ln 476 (-5) 12 (by decide +kernel)
theorem pt_489 {T : jjT} (h : PT T) : jok T 489 (-5) := h.ok 489 (-5) 30 (by decide +kernel)
theorem pl_489 {T : jjT} (h : PT T) : jln T 489 = 30 := h.ln 489 (-5) 30 (by decide +kernel)
theorem pt_520 {T : jjT} (h : PT T) : jok T 520 (-6) := h.ok 520 (-6) 4 (by decide +kernel)
theorem pl_520 {T : jjT} (h : PT T) : jln T 520 = 4 := h.ln 520 (-6) 4 (by decide +kernel)
theorem pt_521 {T : jjT} (h : PT T) : jok T 521 (-2) := h.ok 521 (-2) 300 (by decide +kernel)
theorem pl_521 {T : jjT} (h : PT T) : jln T 521 = 300 := h.ln 521 (-2) 300 (by decide +kernel)
theorem pt_522 {T : jjT} (h : PT T) : jok T 522 (-1) := h.ok 522 (-1) 15 (by decide +kernel)
theorem pl_522 {T : jjT} (h : PT T) : jln T 522 = 15 := h.ln 522 (-1) 15 (by decide +kernel)
theorem pt_523 {T : jjT} (h : PT T) : jok T 523 (-1) := h.ok 523 (-1) 10 (by decide +kernel)
theorem pl_523 {T : jjT} (h : PT T) : jln T 523 = 10 := h.ln 523 (-1) 10 (by decide +kernel)
theorem pt_524 {T : jjT} (h : PT T) : jok T 524 (-1) := h.ok 524 (-1) 10 (by decide +kernel)
theorem pl_524 {T : jjT} (h : PT T) : jln T 524 = 10 := h.ln 524 (-1) 10 (by decide +kernel)
theorem pt_525 {T : jjT} (h : PT T) : jok T 525 (-3) := h.ok 525 (-3) 501 (by decide +kernel)
theorem pl_525 {T : jjT} (h : PT T) : jln T 525 = 501 := h.ln 525 (-3) 501 (by decide +kernel)
theorem pt_526 {T : jjT} (h : PT T) : jok T 526 (-1) := h.ok 526 (-1) 6 (by decide +kernel)
theorem pl_526 {T : jjT} (h : PT T) : jln T 526 = 6 := h.ln 526 (-1) 6 (by decide +kernel)
theorem pt_527 {T : jjT} (h : PT T) : jok T 527 (-1) := h.ok 527 (-1) 6 (by decide +kernel)
theorem pl_527 {T : jjT} (h : PT T) : jln T 527 = 6 := h.ln 527 (-1) 6 (by decide +kernel)
theorem pt_528 {T : jjT} (h : PT T) : jok T 528 (-1) := h.ok 528 (-1) 720 (by decide +kernel)
theorem pl_528 {T : jjT} (h : PT T) : jln T 528 = 720 := h.ln 528 (-1) 720 (by decide +kernel)
theorem pt_529 {T : jjT} (h : PT T) : jok T 529 (-1) := h.ok 529 (-1) 720 (by decide +kernel)
theorem pl_529 {T : jjT} (h : PT T) : jln T 529 = 720 := h.ln 529 (-1) 720 (by decide +kernel)
theorem pt_530 {T : jjT} (h : PT T) : jok T 530 (-5) := h.ok 530 (-5) 6 (by decide +kernel)
theorem pl_530 {T : jjT} (h : PT T) : jln T 530 = 6 := h.ln 530 (-5) 6 (by decide +kernel)
theorem pt_537 {T : jjT} (h : PT T) : jok T 537 (-1) := h.ok 537 (-1) 10 (by decide +kernel)
theorem pl_537 {T : jjT} (h : PT T) : jln T 537 = 10 := h.ln 537 (-1) 10 (by decide +kernel)
theorem pt_538 {T : jjT} (h : PT T) : jok T 538 (-1) := h.ok 538 (-1) 10 (by decide +kernel)
theorem pl_538 {T : jjT} (h : PT T) : jln T 538 = 10 := h.ln 538 (-1) 10 (by decide +kernel)
theorem pv_539_0 {v : Int → Int → Int} (h : PV v) : v 539 0 = 540 := h (539, 0, 540) (by decide +kernel)
theorem pv_539_1 {v : Int → Int → Int} (h : PV v) : v 539 1 = 541 := h (539, 1, 541) (by decide +kernel)
theorem pv_539_2 {v : Int → Int → Int} (h : PV v) : v 539 2 = 542 := h (539, 2, 542) (by decide +kernel)
theorem pv_539_3 {v : Int → Int → Int} (h : PV v) : v 539 3 = 543 := h (539, 3, 543) (by decide +kernel)
theorem pv_539_16 {v : Int → Int → Int} (h : PV v) : v 539 16 = 544 := h (539, 16, 544) (by decide +kernel)
theorem pv_539_22 {v : Int → Int → Int} (h : PV v) : v 539 22 = 545 := h (539, 22, 545) (by decide +kernel)
theorem pv_539_23 {v : Int → Int → Int} (h : PV v) : v 539 23 = 546 := h (539, 23, 546) (by decide +kernel)
theorem pv_539_24 {v : Int → Int → Int} (h : PV v) : v 539 24 = 547 := h (539, 24, 547) (by decide +kernel)
theorem pv_539_26 {v : Int → Int → Int} (h : PV v) : v 539 26 = 548 := h (539, 26, 548) (by decide +kernel)
theorem pv_539_27 {v : Int → Int → Int} (h : PV v) : v 539 27 = 549 := h (539, 27, 549) (by decide +kernel)
theorem pv_539_29 {v : Int → Int → Int} (h : PV v) : v 539 29 = 550 := h (539, 29, 550) (by decide +kernel)
theorem pv_539_30 {v : Int → Int → Int} (h : PV v) : v 539 30 = 551 := h (539, 30, 551) (by decide +kernel)
theorem pv_539_31 {v : Int → Int → Int} (h : PV v) : v 539 31 = 552 := h (539, 31, 552) (by decide +kernel)
theorem pv_539_32 {v : Int → Int → Int} (h : PV v) : v 539 32 = 553 := h (539, 32, 553) (by decide +kernel)
theorem pv_539_33 {v : Int → Int → Int} (h : PV v) : v 539 33 = 554 := h (539, 33, 554) (by decide +kernel)
theorem pv_539_36 {v : Int → Int → Int} (h : PV v) : v 539 36 = 555 := h (539, 36, 555) (by decide +kernel)
theorem pv_539_37 {v : Int → Int → Int} (h : PV v) : v 539 37 = 556 := h (539, 37, 556) (by decide +kernel)
theorem pv_539_38 {v : Int → Int → Int} (h : PV v) : v 539 38 = 557 := h (539, 38, 557) (by decide +kernel)
theorem pv_539_39 {v : Int → Int → Int} (h : PV v) : v 539 39 = 558 := h (539, 39, 558) (by decide +kernel)
theorem pv_539_40 {v : Int → Int → Int} (h : PV v) : v 539 40 = 559 := h (539, 40, 559) (by decide +kernel)
theorem pv_539_41 {v : Int → Int → Int} (h : PV v) : v 539 41 = 560 := h (539, 41, 560) (by decide +kernel)
theorem pv_539_42 {v : Int → Int → Int} (h : PV v) : v 539 42 = 561 := h (539, 42, 561) (by decide +kernel)
theorem pv_401_0 {v : Int → Int → Int} (h : PV v) : v 401 0 = 402 := h (401, 0, 402) (by decide +kernel)
theorem pv_401_1 {v : Int → Int → Int} (h : PV v) : v 401 1 = 403 := h (401, 1, 403) (by decide +kernel)
theorem pv_401_2 {v : Int → Int → Int} (h : PV v) : v 401 2 = 404 := h (401, 2, 404) (by decide +kernel)
theorem pv_401_3 {v : Int → Int → Int} (h : PV v) : v 401 3 = 405 := h (401, 3, 405) (by decide +kernel)
theorem pv_401_4 {v : Int → Int → Int} (h : PV v) : v 401 4 = 416 := h (401, 4, 416) (by decide +kernel)
theorem pv_401_5 {v : Int → Int → Int} (h : PV v) : v 401 5 = 429 := h (401, 5, 429) (by decide +kernel)
theorem pv_401_6 {v : Int → Int → Int} (h : PV v) : v 401 6 = 460 := h (401, 6, 460) (by decide +kernel)
theorem pv_461_0 {v : Int → Int → Int} (h : PV v) : v 461 0 = 462 := h (461, 0, 462) (by decide +kernel)
theorem pv_461_1 {v : Int → Int → Int} (h : PV v) : v 461 1 = 463 := h (461, 1, 463) (by decide +kernel)
theorem pv_461_2 {v : Int → Int → Int} (h : PV v) : v 461 2 = 464 := h (461, 2, 464) (by decide +kernel)
theorem pv_461_3 {v : Int → Int → Int} (h : PV v) : v 461 3 = 465 := h (461, 3, 465) (by decide +kernel)
theorem pv_461_4 {v : Int → Int → Int} (h : PV v) : v 461 4 = 476 := h (461, 4, 476) (by decide +kernel)
theorem pv_461_5 {v : Int → Int → Int} (h : PV v) : v 461 5 = 489 := h (461, 5, 489) (by decide +kernel)
theorem pv_461_6 {v : Int → Int → Int} (h : PV v) : v 461 6 = 520 := h (461, 6, 520) (by decide +kernel)
theorem pv_400_0 {v : Int → Int → Int} (h : PV v) : v 400 0 = 401 := h (400, 0, 401) (by decide +kernel)
theorem pv_400_1 {v : Int → Int → Int} (h : PV v) : v 400 1 = 461 := h (400, 1, 461) (by decide +kernel)
theorem pv_400_2 {v : Int → Int → Int} (h : PV v) : v 400 2 = 521 := h (400, 2, 521) (by decide +kernel)
theorem pv_400_6 {v : Int → Int → Int} (h : PV v) : v 400 6 = 522 := h (400, 6, 522) (by decide +kernel)
theorem pv_400_7 {v : Int → Int → Int} (h : PV v) : v 400 7 = 523 := h (400, 7, 523) (by decide +kernel)
theorem pv_400_8 {v : Int → Int → Int} (h : PV v) : v 400 8 = 524 := h (400, 8, 524) (by decide +kernel)
theorem pv_400_9 {v : Int → Int → Int} (h : PV v) : v 400 9 = 525 := h (400, 9, 525) (by decide +kernel)
theorem pv_400_11 {v : Int → Int → Int} (h : PV v) : v 400 11 = 526 := h (400, 11, 526) (by decide +kernel)
theorem pv_400_12 {v : Int → Int → Int} (h : PV v) : v 400 12 = 527 := h (400, 12, 527) (by decide +kernel)
theorem pv_400_15 {v : Int → Int → Int} (h : PV v) : v 400 15 = 528 := h (400, 15, 528) (by decide +kernel)
theorem pv_400_16 {v : Int → Int → Int} (h : PV v) : v 400 16 = 529 := h (400, 16, 529) (by decide +kernel)
theorem pv_400_17 {v : Int → Int → Int} (h : PV v) : v 400 17 = 530 := h (400, 17, 530) (by decide +kernel)
theorem pv_400_18 {v : Int → Int → Int} (h : PV v) : v 400 18 = 537 := h (400, 18, 537) (by decide +kernel)
theorem pv_400_19 {v : Int → Int → Int} (h : PV v) : v 400 19 = 538 := h (400, 19, 538) (by decide +kernel)
theorem pr_405 {v : Int → Int → Int} (h : PV v) {i : Int} (h0 : 0 ≤ i) (h1 : i < 10) : v 405 i = 406 + i := by
  have key : ∀ j : Fin 10, ((405 : Int), ((j.val : Nat) : Int), (406 : Int) + ((j.val : Nat) : Int)) ∈ pvL := by decide +kernel
  have hj := h _ (key ⟨i.toNat, by omega⟩)
  have e : ((i.toNat : Nat) : Int) = i := by omega
  dsimp only at hj
  rw [e] at hj
  exact hj
theorem pq_405 {T : jjT} (h : PT T) {i : Int} (h0 : 0 ≤ i) (h1 : i < 10) : jok T (406 + i) (-1) ∧ jln T (406 + i) = 5 := by
  have key : ∀ j : Fin 10, ((406 : Int) + ((j.val : Nat) : Int), (-1 : Int), (5 : Int)) ∈ ptL := by decide +kernel
  have hk := key ⟨i.toNat, by omega⟩
  have e : ((i.toNat : Nat) : Int) = i := by omega
  dsimp only at hk
  rw [e] at hk
  exact ⟨h.ok _ _ _ hk, h.ln _ _ _ hk⟩
theorem pr_416 {v : Int → Int → Int} (h : PV v) {i : Int} (h0 : 0 ≤ i) (h1 : i < 12) : v 416 i = 417 + i := by
  have key : ∀ j : Fin 12, ((416 : Int), ((j.val : Nat) : Int), (417 : Int) + ((j.val : Nat) : Int)) ∈ pvL := by decide +kernel
  have hj := h _ (key ⟨i.toNat, by omega⟩)
  have e : ((i.toNat : Nat) : Int) = i := by omega
  dsimp only at hj
  rw [e] at hj
  exact hj
theorem pq_416 {T : jjT} (h : PT T) {i : Int} (h0 : 0 ≤ i) (h1 : i < 12) : jok T (417 + i) (-1) ∧ jln T (417 + i) = 4 := by
  have key : ∀ j : Fin 12, ((417 : Int) + ((j.val : Nat) : Int), (-1 : Int), (4 : Int)) ∈ ptL := by decide +kernel
  have hk := key ⟨i.toNat, by omega⟩
  have e : ((i.toNat : Nat) : Int) = i := by omega
  dsimp only at hk
  rw [e] at hk
  exact ⟨h.ok _ _ _ hk, h.ln _ _ _ hk⟩
theorem pr_429 {v : Int → Int → Int} (h : PV v) {i : Int} (h0 : 0 ≤ i) (h1 : i < 30) : v 429 i = 430 + i := by
  have key : ∀ j : Fin 30, ((429 : Int), ((j.val : Nat) : Int), (430 : Int) + ((j.val : Nat) : Int)) ∈ pvL := by decide +kernel
  have hj := h _ (key ⟨i.toNat, by omega⟩)
  have e : ((i.toNat : Nat) : Int) = i := by omega
  dsimp only at hj
  rw [e] at hj
  exact hj
theorem pq_429 {T : jjT} (h : PT T) {i : Int} (h0 : 0 ≤ i) (h1 : i < 30) : jok T (430 + i) (-1) ∧ jln T (430 + i) = 287 := by
  have key : ∀ j : Fin 30, ((430 : Int) + ((j.val : Nat) : Int), (-1 : Int), (287 : Int)) ∈ ptL := by decide +kernel
  have hk := key ⟨i.toNat, by omega⟩
  have e : ((i.toNat : Nat) : Int) = i := by omega
  dsimp only at hk
  rw [e] at hk
  exact ⟨h.ok _ _ _ hk, h.ln _ _ _ hk⟩
theorem pr_465 {v : Int → Int → Int} (h : PV v) {i : Int} (h0 : 0 ≤ i) (h1 : i < 10) : v 465 i = 466 + i := by
  have key : ∀ j : Fin 10, ((465 : Int), ((j.val : Nat) : Int), (466 : Int) + ((j.val : Nat) : Int)) ∈ pvL := by decide +kernel
  have hj := h _ (key ⟨i.toNat, by omega⟩)
  have e : ((i.toNat : Nat) : Int) = i := by omega
  dsimp only at hj
  rw [e] at hj
  exact hj
theorem pq_465 {T : jjT} (h : PT T) {i : Int} (h0 : 0 ≤ i) (h1 : i < 10) : jok T (466 + i) (-1) ∧ jln T (466 + i) = 5 := by
  have key : ∀ j : Fin 10, ((466 : Int) + ((j.val : Nat) : Int), (-1 : Int), (5 : Int)) ∈ ptL := by decide +kernel
  have hk := key ⟨i.toNat, by omega⟩
  have e : ((i.toNat : Nat) : Int) = i := by omega
  dsimp only at hk
  rw [e] at hk
  exact ⟨h.ok _ _ _ hk, h.ln _ _ _ hk⟩
theorem pr_476 {v : Int → Int → Int} (h : PV v) {i : Int} (h0 : 0 ≤ i) (h1 : i < 12) : v 476 i = 477 + i := by
  have key : ∀ j : Fin 12, ((476 : Int), ((j.val : Nat) : Int), (477 : Int) + ((j.val : Nat) : Int)) ∈ pvL := by decide +kernel
  have hj := h _ (key ⟨i.toNat, by omega⟩)
  have e : ((i.toNat : Nat) : Int) = i := by omega
  dsimp only at hj
  rw [e] at hj
  exact hj
theorem pq_476 {T : jjT} (h : PT T) {i : Int} (h0 : 0 ≤ i) (h1 : i < 12) : jok T (477 + i) (-1) ∧ jln T (477 + i) = 4 := by
  have key : ∀ j : Fin 12, ((477 : Int) + ((j.val : Nat) : Int), (-1 : Int), (4 : Int)) ∈ ptL := by decide +kernel
  have hk := key ⟨i.toNat, by omega⟩
  have e : ((i.toNat : Nat) : Int) = i := by omega
  dsimp only at hk
  rw [e] at hk
  exact ⟨h.ok _ _ _ hk, h.ln _ _ _ hk⟩
theorem pr_489 {v : Int → Int → Int} (h : PV v) {i : Int} (h0 : 0 ≤ i) (h1 : i < 30) : v 489 i = 490 + i := by
  have key : ∀ j : Fin 30, ((489 : Int), ((j.val : Nat) : Int), (490 : Int) + ((j.val : Nat) : Int)) ∈ pvL := by decide +kernel
  have hj := h _ (key ⟨i.toNat, by omega⟩)
  have e : ((i.toNat : Nat) : Int) = i := by omega
  dsimp only at hj
  rw [e] at hj
  exact hj
theorem pq_489 {T : jjT} (h : PT T) {i : Int} (h0 : 0 ≤ i) (h1 : i < 30) : jok T (490 + i) (-1) ∧ jln T (490 + i) = 287 := by
  have key : ∀ j : Fin 30, ((490 : Int) + ((j.val : Nat) : Int), (-1 : Int), (287 : Int)) ∈ ptL := by decide +kernel
  have hk := key ⟨i.toNat, by omega⟩
  have e : ((i.toNat : Nat) : Int) = i := by omega
  dsimp only at hk
  rw [e] at hk
  exact ⟨h.ok _ _ _ hk, h.ln _ _ _ hk⟩
theorem pr_530 {v : Int → Int → Int} (h : PV v) {i : Int} (h0 : 0 ≤ i) (h1 : i < 6) : v 530 i = 531 + i := by
  have key : ∀ j : Fin 6, ((530 : Int), ((j.val : Nat) : Int), (531 : Int) + ((j.val : Nat) : Int)) ∈ pvL := by decide +kernel
  have hj := h _ (key ⟨i.toNat, by omega⟩)
  have e : ((i.toNat : Nat) : Int) = i := by omega
  dsimp only at hj
  rw [e] at hj
  exact hj
theorem pq_530 {T : jjT} (h : PT T) {i : Int} (h0 : 0 ≤ i) (h1 : i < 6) : jok T (531 + i) (-1) ∧ jln T (531 + i) = 5 := by
  have key : ∀ j : Fin 6, ((531 : Int) + ((j.val : Nat) : Int), (-1 : Int), (5 : Int)) ∈ ptL := by decide +kernel
  have hk := key ⟨i.toNat, by omega⟩
  have e : ((i.toNat : Nat) : Int) = i := by omega
  dsimp only at hk
  rw [e] at hk
  exact ⟨h.ok _ _ _ hk, h.ln _ _ _ hk⟩
