/-! plain law: the skeleton: what lies at the places 64 .. 440, once both objects are made (printed by pl_sk.py) -/
set_option maxRecDepth 100000
def sk_S (p : Nat) : Nat × Nat := if p < 65 then (1, 14) else if p < 66 then (2, 16) else if p < 69 then (100, 9) else if p < 70 then (100, 25) else if p < 71 then (100, 30) else if p < 72 then (103, 30) else if p < 102 then (100, 25) else if p < 103 then (103, 60) else if p < 163 then (100, 4) else if p < 164 then (103, 30) else if p < 194 then (100, 3) else if p < 195 then (103, 12) else if p < 207 then (100, 2) else if p < 208 then (103, 20) else if p < 228 then (100, 2) else if p < 229 then (2, 16) else if p < 232 then (100, 9) else if p < 233 then (100, 25) else if p < 234 then (100, 30) else if p < 235 then (103, 30) else if p < 265 then (100, 25) else if p < 266 then (103, 60) else if p < 326 then (100, 4) else if p < 327 then (103, 30) else if p < 357 then (100, 3) else if p < 358 then (103, 12) else if p < 370 then (100, 2) else if p < 371 then (103, 20) else if p < 391 then (100, 2) else if p < 392 then (106, 4) else if p < 393 then (3, 4) else if p < 394 then (104, 2) else if p < 395 then (105, 24) else if p < 396 then (5, 1) else if p < 397 then (100, 12) else if p < 398 then (101, 300) else if p < 399 then (103, 10) else if p < 409 then (100, 25) else if p < 411 then (100, 9) else if p < 412 then (6, 48) else if p < 414 then (100, 11120) else if p < 415 then (101, 300) else if p < 416 then (100, 4) else if p < 420 then (100, 96) else if p < 422 then (100, 1600) else if p < 423 then (100, 40) else if p < 424 then (100, 41) else if p < 426 then (100, 80) else if p < 430 then (100, 24) else if p < 432 then (100, 400) else if p < 433 then (100, 12) else if p < 434 then (102, 200) else if p < 435 then (100, 4) else if p < 436 then (100, 9) else if p < 439 then (100, 6) else if p < 441 then (100, 4) else (0, 0)
def sk_m (μ : fw_M) : Prop := (∀ p, 64 ≤ p → p < 441 → m_S μ p = sk_S p) ∧ 441 ≤ m_x μ ∧
  (m_P μ 64 0 = 65 ∧ m_P μ 64 1 = 228 ∧ m_P μ 64 2 = 391 ∧ m_P μ 64 3 = 392 ∧ m_P μ 64 4 = 395 ∧ m_P μ 64 5 = 397 ∧ m_P μ 64 9 = 398 ∧ m_P μ 64 10 = 409 ∧ m_P μ 64 11 = 410 ∧ m_P μ 65 6 = 66 ∧ m_P μ 65 7 = 67 ∧ m_P μ 65 8 = 68 ∧ m_P μ 65 9 = 69 ∧ m_P μ 65 10 = 70 ∧ m_P μ 65 11 = 71 ∧ m_P μ 65 12 = 102 ∧ m_P μ 65 13 = 163 ∧ m_P μ 65 14 = 194 ∧ m_P μ 65 15 = 207 ∧ m_P μ 228 6 = 229 ∧ m_P μ 228 7 = 230 ∧ m_P μ 228 8 = 231 ∧ m_P μ 228 9 = 232 ∧ m_P μ 228 10 = 233 ∧ m_P μ 228 11 = 234 ∧ m_P μ 228 12 = 265 ∧ m_P μ 228 13 = 326 ∧ m_P μ 228 14 = 357 ∧ m_P μ 228 15 = 370 ∧ m_P μ 392 0 = 393 ∧ m_P μ 392 1 = 0 ∧ m_P μ 392 2 = 394 ∧ m_P μ 393 0 = 0 ∧ m_P μ 393 1 = 0 ∧ m_P μ 395 0 = 396 ∧ m_P μ 411 0 = 412 ∧ m_P μ 411 1 = 413 ∧ m_P μ 411 2 = 414 ∧ m_P μ 411 6 = 415 ∧ m_P μ 411 7 = 416 ∧ m_P μ 411 8 = 417 ∧ m_P μ 411 9 = 418 ∧ m_P μ 411 10 = 419 ∧ m_P μ 411 11 = 420 ∧ m_P μ 411 12 = 421 ∧ m_P μ 411 22 = 422 ∧ m_P μ 411 23 = 423 ∧ m_P μ 411 25 = 424 ∧ m_P μ 411 26 = 425 ∧ m_P μ 411 30 = 426 ∧ m_P μ 411 31 = 427 ∧ m_P μ 411 32 = 428 ∧ m_P μ 411 33 = 429 ∧ m_P μ 411 35 = 430 ∧ m_P μ 411 36 = 431 ∧ m_P μ 411 37 = 432 ∧ m_P μ 411 38 = 433 ∧ m_P μ 411 39 = 434 ∧ m_P μ 411 40 = 435 ∧ m_P μ 411 42 = 436 ∧ m_P μ 411 43 = 437 ∧ m_P μ 411 44 = 438 ∧ m_P μ 411 45 = 439 ∧ m_P μ 411 46 = 440) ∧
  ((∀ j, j < 60 → m_P μ 102 j = 103 + j) ∧ (∀ j, j < 30 → m_P μ 163 j = 164 + j) ∧ (∀ j, j < 12 → m_P μ 194 j = 195 + j) ∧ (∀ j, j < 20 → m_P μ 207 j = 208 + j) ∧ (∀ j, j < 60 → m_P μ 265 j = 266 + j) ∧ (∀ j, j < 30 → m_P μ 326 j = 327 + j) ∧ (∀ j, j < 12 → m_P μ 357 j = 358 + j) ∧ (∀ j, j < 20 → m_P μ 370 j = 371 + j) ∧ (∀ j, j < 10 → m_P μ 398 j = 399 + j)) ∧
  (((∀ j, j < 30 → 72 ≤ m_P μ 71 j ∧ m_P μ 71 j < 102) ∧ ∀ i j, i < 30 → j < 30 → m_P μ 71 i = m_P μ 71 j → i = j) ∧ ((∀ j, j < 30 → 235 ≤ m_P μ 234 j ∧ m_P μ 234 j < 265) ∧ ∀ i j, i < 30 → j < 30 → m_P μ 234 i = m_P μ 234 j → i = j))
theorem sk_p64_0 {μ : fw_M} (h : sk_m μ) : m_P μ 64 0 = 65 := h.2.2.1.1
theorem sk_p64_1 {μ : fw_M} (h : sk_m μ) : m_P μ 64 1 = 228 := h.2.2.1.2.1
theorem sk_p64_2 {μ : fw_M} (h : sk_m μ) : m_P μ 64 2 = 391 := h.2.2.1.2.2.1
theorem sk_p64_3 {μ : fw_M} (h : sk_m μ) : m_P μ 64 3 = 392 := h.2.2.1.2.2.2.1
theorem sk_p64_4 {μ : fw_M} (h : sk_m μ) : m_P μ 64 4 = 395 := h.2.2.1.2.2.2.2.1
theorem sk_p64_5 {μ : fw_M} (h : sk_m μ) : m_P μ 64 5 = 397 := h.2.2.1.2.2.2.2.2.1
theorem sk_p64_9 {μ : fw_M} (h : sk_m μ) : m_P μ 64 9 = 398 := h.2.2.1.2.2.2.2.2.2.1
theorem sk_p64_10 {μ : fw_M} (h : sk_m μ) : m_P μ 64 10 = 409 := h.2.2.1.2.2.2.2.2.2.2.1
theorem sk_p64_11 {μ : fw_M} (h : sk_m μ) : m_P μ 64 11 = 410 := h.2.2.1.2.2.2.2.2.2.2.2.1
theorem sk_p65_6 {μ : fw_M} (h : sk_m μ) : m_P μ 65 6 = 66 := h.2.2.1.2.2.2.2.2.2.2.2.2.1
theorem sk_p65_7 {μ : fw_M} (h : sk_m μ) : m_P μ 65 7 = 67 := h.2.2.1.2.2.2.2.2.2.2.2.2.2.1
theorem sk_p65_8 {μ : fw_M} (h : sk_m μ) : m_P μ 65 8 = 68 := h.2.2.1.2.2.2.2.2.2.2.2.2.2.2.1
theorem sk_p65_9 {μ : fw_M} (h : sk_m μ) : m_P μ 65 9 = 69 := h.2.2.1.2.2.2.2.2.2.2.2.2.2.2.2.1
theorem sk_p65_10 {μ : fw_M} (h : sk_m μ) : m_P μ 65 10 = 70 := h.2.2.1.2.2.2.2.2.2.2.2.2.2.2.2.2.1
theorem sk_p65_11 {μ : fw_M} (h : sk_m μ) : m_P μ 65 11 = 71 := h.2.2.1.2.2.2.2.2.2.2.2.2.2.2.2.2.2.1
theorem sk_p65_12 {μ : fw_M} (h : sk_m μ) : m_P μ 65 12 = 102 := h.2.2.1.2.2.2.2.2.2.2.2.2.2.2.2.2.2.2.1
theorem sk_p65_13 {μ : fw_M} (h : sk_m μ) : m_P μ 65 13 = 163 := h.2.2.1.2.2.2.2.2.2.2.2.2.2.2.2.2.2.2.2.1
theorem sk_p65_14 {μ : fw_M} (h : sk_m μ) : m_P μ 65 14 = 194 := h.2.2.1.2.2.2.2.2.2.2.2.2.2.2.2.2.2.2.2.2.1
theorem sk_p65_15 {μ : fw_M} (h : sk_m μ) : m_P μ 65 15 = 207 := h.2.2.1.2.2.2.2.2.2.2.2.2.2.2.2.2.2.2.2.2.2.1
theorem sk_p228_6 {μ : fw_M} (h : sk_m μ) : m_P μ 228 6 = 229 := h.2.2.1.2.2.2.2.2.2.2.2.2.2.2.2.2.2.2.2.2.2.2.1
theorem sk_p228_7 {μ : fw_M} (h : sk_m μ) : m_P μ 228 7 = 230 := h.2.2.1.2.2.2.2.2.2.2.2.2.2.2.2.2.2.2.2.2.2.2.2.1
theorem sk_p228_8 {μ : fw_M} (h : sk_m μ) : m_P μ 228 8 = 231 := h.2.2.1.2.2.2.2.2.2.2.2.2.2.2.2.2.2.2.2.2.2.2.2.2.1
theorem sk_p228_9 {μ : fw_M} (h : sk_m μ) : m_P μ 228 9 = 232 := h.2.2.1.2.2.2.2.2.2.2.2.2.2.2.2.2.2.2.2.2.2.2.2.2.2.1
theorem sk_p228_10 {μ : fw_M} (h : sk_m μ) : m_P μ 228 10 = 233 := h.2.2.1.2.2.2.2.2.2.2.2.2.2.2.2.2.2.2.2.2.2.2.2.2.2.2.1
theorem sk_p228_11 {μ : fw_M} (h : sk_m μ) : m_P μ 228 11 = 234 := h.2.2.1.2.2.2.2.2.2.2.2.2.2.2.2.2.2.2.2.2.2.2.2.2.2.2.2.1
theorem sk_p228_12 {μ : fw_M} (h : sk_m μ) : m_P μ 228 12 = 265 := h.2.2.1.2.2.2.2.2.2.2.2.2.2.2.2.2.2.2.2.2.2.2.2.2.2.2.2.2.1
theorem sk_p228_13 {μ : fw_M} (h : sk_m μ) : m_P μ 228 13 = 326 := h.2.2.1.2.2.2.2.2.2.2.2.2.2.2.2.2.2.2.2.2.2.2.2.2.2.2.2.2.2.1
theorem sk_p228_14 {μ : fw_M} (h : sk_m μ) : m_P μ 228 14 = 357 := h.2.2.1.2.2.2.2.2.2.2.2.2.2.2.2.2.2.2.2.2.2.2.2.2.2.2.2.2.2.2.1
theorem sk_p228_15 {μ : fw_M} (h : sk_m μ) : m_P μ 228 15 = 370 := h.2.2.1.2.2.2.2.2.2.2.2.2.2.2.2.2.2.2.2.2.2.2.2.2.2.2.2.2.2.2.2.1
theorem sk_p392_0 {μ : fw_M} (h : sk_m μ) : m_P μ 392 0 = 393 := h.2.2.1.2.2.2.2.2.2.2.2.2.2.2.2.2.2.2.2.2.2.2.2.2.2.2.2.2.2.2.2.2.1
theorem sk_p392_1 {μ : fw_M} (h : sk_m μ) : m_P μ 392 1 = 0 := h.2.2.1.2.2.2.2.2.2.2.2.2.2.2.2.2.2.2.2.2.2.2.2.2.2.2.2.2.2.2.2.2.2.1
theorem sk_p392_2 {μ : fw_M} (h : sk_m μ) : m_P μ 392 2 = 394 := h.2.2.1.2.2.2.2.2.2.2.2.2.2.2.2.2.2.2.2.2.2.2.2.2.2.2.2.2.2.2.2.2.2.2.1
theorem sk_p393_0 {μ : fw_M} (h : sk_m μ) : m_P μ 393 0 = 0 := h.2.2.1.2.2.2.2.2.2.2.2.2.2.2.2.2.2.2.2.2.2.2.2.2.2.2.2.2.2.2.2.2.2.2.2.1
theorem sk_p393_1 {μ : fw_M} (h : sk_m μ) : m_P μ 393 1 = 0 := h.2.2.1.2.2.2.2.2.2.2.2.2.2.2.2.2.2.2.2.2.2.2.2.2.2.2.2.2.2.2.2.2.2.2.2.2.1
theorem sk_p395_0 {μ : fw_M} (h : sk_m μ) : m_P μ 395 0 = 396 := h.2.2.1.2.2.2.2.2.2.2.2.2.2.2.2.2.2.2.2.2.2.2.2.2.2.2.2.2.2.2.2.2.2.2.2.2.2.1
theorem sk_p411_0 {μ : fw_M} (h : sk_m μ) : m_P μ 411 0 = 412 := h.2.2.1.2.2.2.2.2.2.2.2.2.2.2.2.2.2.2.2.2.2.2.2.2.2.2.2.2.2.2.2.2.2.2.2.2.2.2.1
theorem sk_p411_1 {μ : fw_M} (h : sk_m μ) : m_P μ 411 1 = 413 := h.2.2.1.2.2.2.2.2.2.2.2.2.2.2.2.2.2.2.2.2.2.2.2.2.2.2.2.2.2.2.2.2.2.2.2.2.2.2.2.1
theorem sk_p411_2 {μ : fw_M} (h : sk_m μ) : m_P μ 411 2 = 414 := h.2.2.1.2.2.2.2.2.2.2.2.2.2.2.2.2.2.2.2.2.2.2.2.2.2.2.2.2.2.2.2.2.2.2.2.2.2.2.2.2.1
theorem sk_p411_6 {μ : fw_M} (h : sk_m μ) : m_P μ 411 6 = 415 := h.2.2.1.2.2.2.2.2.2.2.2.2.2.2.2.2.2.2.2.2.2.2.2.2.2.2.2.2.2.2.2.2.2.2.2.2.2.2.2.2.2.1
theorem sk_p411_7 {μ : fw_M} (h : sk_m μ) : m_P μ 411 7 = 416 := h.2.2.1.2.2.2.2.2.2.2.2.2.2.2.2.2.2.2.2.2.2.2.2.2.2.2.2.2.2.2.2.2.2.2.2.2.2.2.2.2.2.2.1
theorem sk_p411_8 {μ : fw_M} (h : sk_m μ) : m_P μ 411 8 = 417 := h.2.2.1.2.2.2.2.2.2.2.2.2.2.2.2.2.2.2.2.2.2.2.2.2.2.2.2.2.2.2.2.2.2.2.2.2.2.2.2.2.2.2.2.1
theorem sk_p411_9 {μ : fw_M} (h : sk_m μ) : m_P μ 411 9 = 418 := h.2.2.1.2.2.2.2.2.2.2.2.2.2.2.2.2.2.2.2.2.2.2.2.2.2.2.2.2.2.2.2.2.2.2.2.2.2.2.2.2.2.2.2.2.1
theorem sk_p411_10 {μ : fw_M} (h : sk_m μ) : m_P μ 411 10 = 419 := h.2.2.1.2.2.2.2.2.2.2.2.2.2.2.2.2.2.2.2.2.2.2.2.2.2.2.2.2.2.2.2.2.2.2.2.2.2.2.2.2.2.2.2.2.2.1
theorem sk_p411_11 {μ : fw_M} (h : sk_m μ) : m_P μ 411 11 = 420 := h.2.2.1.2.2.2.2.2.2.2.2.2.2.2.2.2.2.2.2.2.2.2.2.2.2.2.2.2.2.2.2.2.2.2.2.2.2.2.2.2.2.2.2.2.2.2.1
theorem sk_p411_12 {μ : fw_M} (h : sk_m μ) : m_P μ 411 12 = 421 := h.2.2.1.2.2.2.2.2.2.2.2.2.2.2.2.2.2.2.2.2.2.2.2.2.2.2.2.2.2.2.2.2.2.2.2.2.2.2.2.2.2.2.2.2.2.2.2.1
theorem sk_p411_22 {μ : fw_M} (h : sk_m μ) : m_P μ 411 22 = 422 := h.2.2.1.2.2.2.2.2.2.2.2.2.2.2.2.2.2.2.2.2.2.2.2.2.2.2.2.2.2.2.2.2.2.2.2.2.2.2.2.2.2.2.2.2.2.2.2.2.1
theorem sk_p411_23 {μ : fw_M} (h : sk_m μ) : m_P μ 411 23 = 423 := h.2.2.1.2.2.2.2.2.2.2.2.2.2.2.2.2.2.2.2.2.2.2.2.2.2.2.2.2.2.2.2.2.2.2.2.2.2.2.2.2.2.2.2.2.2.2.2.2.2.1
theorem sk_p411_25 {μ : fw_M} (h : sk_m μ) : m_P μ 411 25 = 424 := h.2.2.1.2.2.2.2.2.2.2.2.2.2.2.2.2.2.2.2.2.2.2.2.2.2.2.2.2.2.2.2.2.2.2.2.2.2.2.2.2.2.2.2.2.2.2.2.2.2.2.1
theorem sk_p411_26 {μ : fw_M} (h : sk_m μ) : m_P μ 411 26 = 425 := h.2.2.1.2.2.2.2.2.2.2.2.2.2.2.2.2.2.2.2.2.2.2.2.2.2.2.2.2.2.2.2.2.2.2.2.2.2.2.2.2.2.2.2.2.2.2.2.2.2.2.2.1
theorem sk_p411_30 {μ : fw_M} (h : sk_m μ) : m_P μ 411 30 = 426 := h.2.2.1.2.2.2.2.2.2.2.2.2.2.2.2.2.2.2.2.2.2.2.2.2.2.2.2.2.2.2.2.2.2.2.2.2.2.2.2.2.2.2.2.2.2.2.2.2.2.2.2.2.1
theorem sk_p411_31 {μ : fw_M} (h : sk_m μ) : m_P μ 411 31 = 427 := h.2.2.1.2.2.2.2.2.2.2.2.2.2.2.2.2.2.2.2.2.2.2.2.2.2.2.2.2.2.2.2.2.2.2.2.2.2.2.2.2.2.2.2.2.2.2.2.2.2.2.2.2.2.1
theorem sk_p411_32 {μ : fw_M} (h : sk_m μ) : m_P μ 411 32 = 428 := h.2.2.1.2.2.2.2.2.2.2.2.2.2.2.2.2.2.2.2.2.2.2.2.2.2.2.2.2.2.2.2.2.2.2.2.2.2.2.2.2.2.2.2.2.2.2.2.2.2.2.2.2.2.2.1
theorem sk_p411_33 {μ : fw_M} (h : sk_m μ) : m_P μ 411 33 = 429 := h.2.2.1.2.2.2.2.2.2.2.2.2.2.2.2.2.2.2.2.2.2.2.2.2.2.2.2.2.2.2.2.2.2.2.2.2.2.2.2.2.2.2.2.2.2.2.2.2.2.2.2.2.2.2.2.1
theorem sk_p411_35 {μ : fw_M} (h : sk_m μ) : m_P μ 411 35 = 430 := h.2.2.1.2.2.2.2.2.2.2.2.2.2.2.2.2.2.2.2.2.2.2.2.2.2.2.2.2.2.2.2.2.2.2.2.2.2.2.2.2.2.2.2.2.2.2.2.2.2.2.2.2.2.2.2.2.1
theorem sk_p411_36 {μ : fw_M} (h : sk_m μ) : m_P μ 411 36 = 431 := h.2.2.1.2.2.2.2.2.2.2.2.2.2.2.2.2.2.2.2.2.2.2.2.2.2.2.2.2.2.2.2.2.2.2.2.2.2.2.2.2.2.2.2.2.2.2.2.2.2.2.2.2.2.2.2.2.2.1
theorem sk_p411_37 {μ : fw_M} (h : sk_m μ) : m_P μ 411 37 = 432 := h.2.2.1.2.2.2.2.2.2.2.2.2.2.2.2.2.2.2.2.2.2.2.2.2.2.2.2.2.2.2.2.2.2.2.2.2.2.2.2.2.2.2.2.2.2.2.2.2.2.2.2.2.2.2.2.2.2.2.1
theorem sk_p411_38 {μ : fw_M} (h : sk_m μ) : m_P μ 411 38 = 433 := h.2.2.1.2.2.2.2.2.2.2.2.2.2.2.2.2.2.2.2.2.2.2.2.2.2.2.2.2.2.2.2.2.2.2.2.2.2.2.2.2.2.2.2.2.2.2.2.2.2.2.2.2.2.2.2.2.2.2.2.1
theorem sk_p411_39 {μ : fw_M} (h : sk_m μ) : m_P μ 411 39 = 434 := h.2.2.1.2.2.2.2.2.2.2.2.2.2.2.2.2.2.2.2.2.2.2.2.2.2.2.2.2.2.2.2.2.2.2.2.2.2.2.2.2.2.2.2.2.2.2.2.2.2.2.2.2.2.2.2.2.2.2.2.2.1
theorem sk_p411_40 {μ : fw_M} (h : sk_m μ) : m_P μ 411 40 = 435 := h.2.2.1.2.2.2.2.2.2.2.2.2.2.2.2.2.2.2.2.2.2.2.2.2.2.2.2.2.2.2.2.2.2.2.2.2.2.2.2.2.2.2.2.2.2.2.2.2.2.2.2.2.2.2.2.2.2.2.2.2.2.1
theorem sk_p411_42 {μ : fw_M} (h : sk_m μ) : m_P μ 411 42 = 436 := h.2.2.1.2.2.2.2.2.2.2.2.2.2.2.2.2.2.2.2.2.2.2.2.2.2.2.2.2.2.2.2.2.2.2.2.2.2.2.2.2.2.2.2.2.2.2.2.2.2.2.2.2.2.2.2.2.2.2.2.2.2.2.1
theorem sk_p411_43 {μ : fw_M} (h : sk_m μ) : m_P μ 411 43 = 437 := h.2.2.1.2.2.2.2.2.2.2.2.2.2.2.2.2.2.2.2.2.2.2.2.2.2.2.2.2.2.2.2.2.2.2.2.2.2.2.2.2.2.2.2.2.2.2.2.2.2.2.2.2.2.2.2.2.2.2.2.2.2.2.2.1
theorem sk_p411_44 {μ : fw_M} (h : sk_m μ) : m_P μ 411 44 = 438 := h.2.2.1.2.2.2.2.2.2.2.2.2.2.2.2.2.2.2.2.2.2.2.2.2.2.2.2.2.2.2.2.2.2.2.2.2.2.2.2.2.2.2.2.2.2.2.2.2.2.2.2.2.2.2.2.2.2.2.2.2.2.2.2.2.1
theorem sk_p411_45 {μ : fw_M} (h : sk_m μ) : m_P μ 411 45 = 439 := h.2.2.1.2.2.2.2.2.2.2.2.2.2.2.2.2.2.2.2.2.2.2.2.2.2.2.2.2.2.2.2.2.2.2.2.2.2.2.2.2.2.2.2.2.2.2.2.2.2.2.2.2.2.2.2.2.2.2.2.2.2.2.2.2.2.1
theorem sk_p411_46 {μ : fw_M} (h : sk_m μ) : m_P μ 411 46 = 440 := h.2.2.1.2.2.2.2.2.2.2.2.2.2.2.2.2.2.2.2.2.2.2.2.2.2.2.2.2.2.2.2.2.2.2.2.2.2.2.2.2.2.2.2.2.2.2.2.2.2.2.2.2.2.2.2.2.2.2.2.2.2.2.2.2.2.2
theorem sk_r102 {μ : fw_M} (h : sk_m μ) {j : Nat} (hj : j < 60) : m_P μ 102 j = 103 + j := h.2.2.2.1.1 j hj
theorem sk_r163 {μ : fw_M} (h : sk_m μ) {j : Nat} (hj : j < 30) : m_P μ 163 j = 164 + j := h.2.2.2.1.2.1 j hj
theorem sk_r194 {μ : fw_M} (h : sk_m μ) {j : Nat} (hj : j < 12) : m_P μ 194 j = 195 + j := h.2.2.2.1.2.2.1 j hj
theorem sk_r207 {μ : fw_M} (h : sk_m μ) {j : Nat} (hj : j < 20) : m_P μ 207 j = 208 + j := h.2.2.2.1.2.2.2.1 j hj
theorem sk_r265 {μ : fw_M} (h : sk_m μ) {j : Nat} (hj : j < 60) : m_P μ 265 j = 266 + j := h.2.2.2.1.2.2.2.2.1 j hj
theorem sk_r326 {μ : fw_M} (h : sk_m μ) {j : Nat} (hj : j < 30) : m_P μ 326 j = 327 + j := h.2.2.2.1.2.2.2.2.2.1 j hj
theorem sk_r357 {μ : fw_M} (h : sk_m μ) {j : Nat} (hj : j < 12) : m_P μ 357 j = 358 + j := h.2.2.2.1.2.2.2.2.2.2.1 j hj
theorem sk_r370 {μ : fw_M} (h : sk_m μ) {j : Nat} (hj : j < 20) : m_P μ 370 j = 371 + j := h.2.2.2.1.2.2.2.2.2.2.2.1 j hj
theorem sk_r398 {μ : fw_M} (h : sk_m μ) {j : Nat} (hj : j < 10) : m_P μ 398 j = 399 + j := h.2.2.2.1.2.2.2.2.2.2.2.2 j hj
theorem sk_s65 {μ : fw_M} (h : sk_m μ) {j : Nat} (hj : j < 30) : 72 ≤ m_P μ 71 j ∧ m_P μ 71 j < 102 := h.2.2.2.2.1.1 j hj
theorem sk_t65 {μ : fw_M} (h : sk_m μ) {i j : Nat} (hi : i < 30) (hj : j < 30) (e : m_P μ 71 i = m_P μ 71 j) : i = j := h.2.2.2.2.1.2 i j hi hj e
theorem sk_s228 {μ : fw_M} (h : sk_m μ) {j : Nat} (hj : j < 30) : 235 ≤ m_P μ 234 j ∧ m_P μ 234 j < 265 := h.2.2.2.2.2.1 j hj
theorem sk_t228 {μ : fw_M} (h : sk_m μ) {i j : Nat} (hi : i < 30) (hj : j < 30) (e : m_P μ 234 i = m_P μ 234 j) : i = j := h.2.2.2.2.2.2 i j hi hj e
theorem sk_k64 {μ : fw_M} (h : sk_m μ) : m_K μ 64 = 1 := ml_KS ((h.1 64 (by decide) (by decide)).trans (by decide +kernel : sk_S 64 = (1, 14)))
theorem sk_n64 {μ : fw_M} (h : sk_m μ) : m_N μ 64 = 14 := ml_NS ((h.1 64 (by decide) (by decide)).trans (by decide +kernel : sk_S 64 = (1, 14)))
theorem sk_k65 {μ : fw_M} (h : sk_m μ) : m_K μ 65 = 2 := ml_KS ((h.1 65 (by decide) (by decide)).trans (by decide +kernel : sk_S 65 = (2, 16)))
theorem sk_n65 {μ : fw_M} (h : sk_m μ) : m_N μ 65 = 16 := ml_NS ((h.1 65 (by decide) (by decide)).trans (by decide +kernel : sk_S 65 = (2, 16)))
theorem sk_q66 {μ : fw_M} (h : sk_m μ) {p : Nat} (h1 : 66 ≤ p) (h2 : p < 69) : m_K μ p = 100 ∧ m_N μ p = 9 := by
  have e := h.1 p (by omega) (by omega)
  have e2 : ∀ p, p < 69 → 66 ≤ p → sk_S p = (100, 9) := by decide +kernel
  rw [e2 p h2 h1] at e
  exact ⟨ml_KS e, ml_NS e⟩
theorem sk_k66 {μ : fw_M} (h : sk_m μ) : m_K μ 66 = 100 := (sk_q66 h (by decide) (by decide)).1
theorem sk_n66 {μ : fw_M} (h : sk_m μ) : m_N μ 66 = 9 := (sk_q66 h (by decide) (by decide)).2
theorem sk_k67 {μ : fw_M} (h : sk_m μ) : m_K μ 67 = 100 := (sk_q66 h (by decide) (by decide)).1
theorem sk_n67 {μ : fw_M} (h : sk_m μ) : m_N μ 67 = 9 := (sk_q66 h (by decide) (by decide)).2
theorem sk_k68 {μ : fw_M} (h : sk_m μ) : m_K μ 68 = 100 := (sk_q66 h (by decide) (by decide)).1
theorem sk_n68 {μ : fw_M} (h : sk_m μ) : m_N μ 68 = 9 := (sk_q66 h (by decide) (by decide)).2
theorem sk_k69 {μ : fw_M} (h : sk_m μ) : m_K μ 69 = 100 := ml_KS ((h.1 69 (by decide) (by decide)).trans (by decide +kernel : sk_S 69 = (100, 25)))
theorem sk_n69 {μ : fw_M} (h : sk_m μ) : m_N μ 69 = 25 := ml_NS ((h.1 69 (by decide) (by decide)).trans (by decide +kernel : sk_S 69 = (100, 25)))
theorem sk_k70 {μ : fw_M} (h : sk_m μ) : m_K μ 70 = 100 := ml_KS ((h.1 70 (by decide) (by decide)).trans (by decide +kernel : sk_S 70 = (100, 30)))
theorem sk_n70 {μ : fw_M} (h : sk_m μ) : m_N μ 70 = 30 := ml_NS ((h.1 70 (by decide) (by decide)).trans (by decide +kernel : sk_S 70 = (100, 30)))
theorem sk_k71 {μ : fw_M} (h : sk_m μ) : m_K μ 71 = 103 := ml_KS ((h.1 71 (by decide) (by decide)).trans (by decide +kernel : sk_S 71 = (103, 30)))
theorem sk_n71 {μ : fw_M} (h : sk_m μ) : m_N μ 71 = 30 := ml_NS ((h.1 71 (by decide) (by decide)).trans (by decide +kernel : sk_S 71 = (103, 30)))
theorem sk_q72 {μ : fw_M} (h : sk_m μ) {p : Nat} (h1 : 72 ≤ p) (h2 : p < 102) : m_K μ p = 100 ∧ m_N μ p = 25 := by
  have e := h.1 p (by omega) (by omega)
  have e2 : ∀ p, p < 102 → 72 ≤ p → sk_S p = (100, 25) := by decide +kernel
  rw [e2 p h2 h1] at e
  exact ⟨ml_KS e, ml_NS e⟩
theorem sk_k102 {μ : fw_M} (h : sk_m μ) : m_K μ 102 = 103 := ml_KS ((h.1 102 (by decide) (by decide)).trans (by decide +kernel : sk_S 102 = (103, 60)))
theorem sk_n102 {μ : fw_M} (h : sk_m μ) : m_N μ 102 = 60 := ml_NS ((h.1 102 (by decide) (by decide)).trans (by decide +kernel : sk_S 102 = (103, 60)))
theorem sk_q103 {μ : fw_M} (h : sk_m μ) {p : Nat} (h1 : 103 ≤ p) (h2 : p < 163) : m_K μ p = 100 ∧ m_N μ p = 4 := by
  have e := h.1 p (by omega) (by omega)
  have e2 : ∀ p, p < 163 → 103 ≤ p → sk_S p = (100, 4) := by decide +kernel
  rw [e2 p h2 h1] at e
  exact ⟨ml_KS e, ml_NS e⟩
theorem sk_k163 {μ : fw_M} (h : sk_m μ) : m_K μ 163 = 103 := ml_KS ((h.1 163 (by decide) (by decide)).trans (by decide +kernel : sk_S 163 = (103, 30)))
theorem sk_n163 {μ : fw_M} (h : sk_m μ) : m_N μ 163 = 30 := ml_NS ((h.1 163 (by decide) (by decide)).trans (by decide +kernel : sk_S 163 = (103, 30)))
theorem sk_q164 {μ : fw_M} (h : sk_m μ) {p : Nat} (h1 : 164 ≤ p) (h2 : p < 194) : m_K μ p = 100 ∧ m_N μ p = 3 := by
  have e := h.1 p (by omega) (by omega)
  have e2 : ∀ p, p < 194 → 164 ≤ p → sk_S p = (100, 3) := by decide +kernel
  rw [e2 p h2 h1] at e
  exact ⟨ml_KS e, ml_NS e⟩
theorem sk_k194 {μ : fw_M} (h : sk_m μ) : m_K μ 194 = 103 := ml_KS ((h.1 194 (by decide) (by decide)).trans (by decide +kernel : sk_S 194 = (103, 12)))
theorem sk_n194 {μ : fw_M} (h : sk_m μ) : m_N μ 194 = 12 := ml_NS ((h.1 194 (by decide) (by decide)).trans (by decide +kernel : sk_S 194 = (103, 12)))
theorem sk_q195 {μ : fw_M} (h : sk_m μ) {p : Nat} (h1 : 195 ≤ p) (h2 : p < 207) : m_K μ p = 100 ∧ m_N μ p = 2 := by
  have e := h.1 p (by omega) (by omega)
  have e2 : ∀ p, p < 207 → 195 ≤ p → sk_S p = (100, 2) := by decide +kernel
  rw [e2 p h2 h1] at e
  exact ⟨ml_KS e, ml_NS e⟩
theorem sk_k207 {μ : fw_M} (h : sk_m μ) : m_K μ 207 = 103 := ml_KS ((h.1 207 (by decide) (by decide)).trans (by decide +kernel : sk_S 207 = (103, 20)))
theorem sk_n207 {μ : fw_M} (h : sk_m μ) : m_N μ 207 = 20 := ml_NS ((h.1 207 (by decide) (by decide)).trans (by decide +kernel : sk_S 207 = (103, 20)))
theorem sk_q208 {μ : fw_M} (h : sk_m μ) {p : Nat} (h1 : 208 ≤ p) (h2 : p < 228) : m_K μ p = 100 ∧ m_N μ p = 2 := by
  have e := h.1 p (by omega) (by omega)
  have e2 : ∀ p, p < 228 → 208 ≤ p → sk_S p = (100, 2) := by decide +kernel
  rw [e2 p h2 h1] at e
  exact ⟨ml_KS e, ml_NS e⟩
theorem sk_k228 {μ : fw_M} (h : sk_m μ) : m_K μ 228 = 2 := ml_KS ((h.1 228 (by decide) (by decide)).trans (by decide +kernel : sk_S 228 = (2, 16)))
theorem sk_n228 {μ : fw_M} (h : sk_m μ) : m_N μ 228 = 16 := ml_NS ((h.1 228 (by decide) (by decide)).trans (by decide +kernel : sk_S 228 = (2, 16)))
theorem sk_q229 {μ : fw_M} (h : sk_m μ) {p : Nat} (h1 : 229 ≤ p) (h2 : p < 232) : m_K μ p = 100 ∧ m_N μ p = 9 := by
  have e := h.1 p (by omega) (by omega)
  have e2 : ∀ p, p < 232 → 229 ≤ p → sk_S p = (100, 9) := by decide +kernel
  rw [e2 p h2 h1] at e
  exact ⟨ml_KS e, ml_NS e⟩
theorem sk_k229 {μ : fw_M} (h : sk_m μ) : m_K μ 229 = 100 := (sk_q229 h (by decide) (by decide)).1
theorem sk_n229 {μ : fw_M} (h : sk_m μ) : m_N μ 229 = 9 := (sk_q229 h (by decide) (by decide)).2
theorem sk_k230 {μ : fw_M} (h : sk_m μ) : m_K μ 230 = 100 := (sk_q229 h (by decide) (by decide)).1
theorem sk_n230 {μ : fw_M} (h : sk_m μ) : m_N μ 230 = 9 := (sk_q229 h (by decide) (by decide)).2
theorem sk_k231 {μ : fw_M} (h : sk_m μ) : m_K μ 231 = 100 := (sk_q229 h (by decide) (by decide)).1
theorem sk_n231 {μ : fw_M} (h : sk_m μ) : m_N μ 231 = 9 := (sk_q229 h (by decide) (by decide)).2
theorem sk_k232 {μ : fw_M} (h : sk_m μ) : m_K μ 232 = 100 := ml_KS ((h.1 232 (by decide) (by decide)).trans (by decide +kernel : sk_S 232 = (100, 25)))
theorem sk_n232 {μ : fw_M} (h : sk_m μ) : m_N μ 232 = 25 := ml_NS ((h.1 232 (by decide) (by decide)).trans (by decide +kernel : sk_S 232 = (100, 25)))
theorem sk_k233 {μ : fw_M} (h : sk_m μ) : m_K μ 233 = 100 := ml_KS ((h.1 233 (by decide) (by decide)).trans (by decide +kernel : sk_S 233 = (100, 30)))
theorem sk_n233 {μ : fw_M} (h : sk_m μ) : m_N μ 233 = 30 := ml_NS ((h.1 233 (by decide) (by decide)).trans (by decide +kernel : sk_S 233 = (100, 30)))
theorem sk_k234 {μ : fw_M} (h : sk_m μ) : m_K μ 234 = 103 := ml_KS ((h.1 234 (by decide) (by decide)).trans (by decide +kernel : sk_S 234 = (103, 30)))
theorem sk_n234 {μ : fw_M} (h : sk_m μ) : m_N μ 234 = 30 := ml_NS ((h.1 234 (by decide) (by decide)).trans (by decide +kernel : sk_S 234 = (103, 30)))
theorem sk_q235 {μ : fw_M} (h : sk_m μ) {p : Nat} (h1 : 235 ≤ p) (h2 : p < 265) : m_K μ p = 100 ∧ m_N μ p = 25 := by
  have e := h.1 p (by omega) (by omega)
  have e2 : ∀ p, p < 265 → 235 ≤ p → sk_S p = (100, 25) := by decide +kernel
  rw [e2 p h2 h1] at e
  exact ⟨ml_KS e, ml_NS e⟩
theorem sk_k265 {μ : fw_M} (h : sk_m μ) : m_K μ 265 = 103 := ml_KS ((h.1 265 (by decide) (by decide)).trans (by decide +kernel : sk_S 265 = (103, 60)))
theorem sk_n265 {μ : fw_M} (h : sk_m μ) : m_N μ 265 = 60 := ml_NS ((h.1 265 (by decide) (by decide)).trans (by decide +kernel : sk_S 265 = (103, 60)))
theorem sk_q266 {μ : fw_M} (h : sk_m μ) {p : Nat} (h1 : 266 ≤ p) (h2 : p < 326) : m_K μ p = 100 ∧ m_N μ p = 4 := by
  have e := h.1 p (by omega) (by omega)
  have e2 : ∀ p, p < 326 → 266 ≤ p → sk_S p = (100, 4) := by decide +kernel
  rw [e2 p h2 h1] at e
  exact ⟨ml_KS e, ml_NS e⟩
theorem sk_k326 {μ : fw_M} (h : sk_m μ) : m_K μ 326 = 103 := ml_KS ((h.1 326 (by decide) (by decide)).trans (by decide +kernel : sk_S 326 = (103, 30)))
theorem sk_n326 {μ : fw_M} (h : sk_m μ) : m_N μ 326 = 30 := ml_NS ((h.1 326 (by decide) (by decide)).trans (by decide +kernel : sk_S 326 = (103, 30)))
theorem sk_q327 {μ : fw_M} (h : sk_m μ) {p : Nat} (h1 : 327 ≤ p) (h2 : p < 357) : m_K μ p = 100 ∧ m_N μ p = 3 := by
  have e := h.1 p (by omega) (by omega)
  have e2 : ∀ p, p < 357 → 327 ≤ p → sk_S p = (100, 3) := by decide +kernel
  rw [e2 p h2 h1] at e
  exact ⟨ml_KS e, ml_NS e⟩
theorem sk_k357 {μ : fw_M} (h : sk_m μ) : m_K μ 357 = 103 := ml_KS ((h.1 357 (by decide) (by decide)).trans (by decide +kernel : sk_S 357 = (103, 12)))
theorem sk_n357 {μ : fw_M} (h : sk_m μ) : m_N μ 357 = 12 := ml_NS ((h.1 357 (by decide) (by decide)).trans (by decide +kernel : sk_S 357 = (103, 12)))
theorem sk_q358 {μ : fw_M} (h : sk_m μ) {p : Nat} (h1 : 358 ≤ p) (h2 : p < 370) : m_K μ p = 100 ∧ m_N μ p = 2 := by
  have e := h.1 p (by omega) (by omega)
  have e2 : ∀ p, p < 370 → 358 ≤ p → sk_S p = (100, 2) := by decide +kernel
  rw [e2 p h2 h1] at e
  exact ⟨ml_KS e, ml_NS e⟩
theorem sk_k370 {μ : fw_M} (h : sk_m μ) : m_K μ 370 = 103 := ml_KS ((h.1 370 (by decide) (by decide)).trans (by decide +kernel : sk_S 370 = (103, 20)))
theorem sk_n370 {μ : fw_M} (h : sk_m μ) : m_N μ 370 = 20 := ml_NS ((h.1 370 (by decide) (by decide)).trans (by decide +kernel : sk_S 370 = (103, 20)))
theorem sk_q371 {μ : fw_M} (h : sk_m μ) {p : Nat} (h1 : 371 ≤ p) (h2 : p < 391) : m_K μ p = 100 ∧ m_N μ p = 2 := by
  have e := h.1 p (by omega) (by omega)
  have e2 : ∀ p, p < 391 → 371 ≤ p → sk_S p = (100, 2) := by decide +kernel
  rw [e2 p h2 h1] at e
  exact ⟨ml_KS e, ml_NS e⟩
theorem sk_k391 {μ : fw_M} (h : sk_m μ) : m_K μ 391 = 106 := ml_KS ((h.1 391 (by decide) (by decide)).trans (by decide +kernel : sk_S 391 = (106, 4)))
theorem sk_n391 {μ : fw_M} (h : sk_m μ) : m_N μ 391 = 4 := ml_NS ((h.1 391 (by decide) (by decide)).trans (by decide +kernel : sk_S 391 = (106, 4)))
theorem sk_k392 {μ : fw_M} (h : sk_m μ) : m_K μ 392 = 3 := ml_KS ((h.1 392 (by decide) (by decide)).trans (by decide +kernel : sk_S 392 = (3, 4)))
theorem sk_n392 {μ : fw_M} (h : sk_m μ) : m_N μ 392 = 4 := ml_NS ((h.1 392 (by decide) (by decide)).trans (by decide +kernel : sk_S 392 = (3, 4)))
theorem sk_k393 {μ : fw_M} (h : sk_m μ) : m_K μ 393 = 104 := ml_KS ((h.1 393 (by decide) (by decide)).trans (by decide +kernel : sk_S 393 = (104, 2)))
theorem sk_n393 {μ : fw_M} (h : sk_m μ) : m_N μ 393 = 2 := ml_NS ((h.1 393 (by decide) (by decide)).trans (by decide +kernel : sk_S 393 = (104, 2)))
theorem sk_k394 {μ : fw_M} (h : sk_m μ) : m_K μ 394 = 105 := ml_KS ((h.1 394 (by decide) (by decide)).trans (by decide +kernel : sk_S 394 = (105, 24)))
theorem sk_n394 {μ : fw_M} (h : sk_m μ) : m_N μ 394 = 24 := ml_NS ((h.1 394 (by decide) (by decide)).trans (by decide +kernel : sk_S 394 = (105, 24)))
theorem sk_k395 {μ : fw_M} (h : sk_m μ) : m_K μ 395 = 5 := ml_KS ((h.1 395 (by decide) (by decide)).trans (by decide +kernel : sk_S 395 = (5, 1)))
theorem sk_n395 {μ : fw_M} (h : sk_m μ) : m_N μ 395 = 1 := ml_NS ((h.1 395 (by decide) (by decide)).trans (by decide +kernel : sk_S 395 = (5, 1)))
theorem sk_k396 {μ : fw_M} (h : sk_m μ) : m_K μ 396 = 100 := ml_KS ((h.1 396 (by decide) (by decide)).trans (by decide +kernel : sk_S 396 = (100, 12)))
theorem sk_n396 {μ : fw_M} (h : sk_m μ) : m_N μ 396 = 12 := ml_NS ((h.1 396 (by decide) (by decide)).trans (by decide +kernel : sk_S 396 = (100, 12)))
theorem sk_k397 {μ : fw_M} (h : sk_m μ) : m_K μ 397 = 101 := ml_KS ((h.1 397 (by decide) (by decide)).trans (by decide +kernel : sk_S 397 = (101, 300)))
theorem sk_n397 {μ : fw_M} (h : sk_m μ) : m_N μ 397 = 300 := ml_NS ((h.1 397 (by decide) (by decide)).trans (by decide +kernel : sk_S 397 = (101, 300)))
theorem sk_k398 {μ : fw_M} (h : sk_m μ) : m_K μ 398 = 103 := ml_KS ((h.1 398 (by decide) (by decide)).trans (by decide +kernel : sk_S 398 = (103, 10)))
theorem sk_n398 {μ : fw_M} (h : sk_m μ) : m_N μ 398 = 10 := ml_NS ((h.1 398 (by decide) (by decide)).trans (by decide +kernel : sk_S 398 = (103, 10)))
theorem sk_q399 {μ : fw_M} (h : sk_m μ) {p : Nat} (h1 : 399 ≤ p) (h2 : p < 409) : m_K μ p = 100 ∧ m_N μ p = 25 := by
  have e := h.1 p (by omega) (by omega)
  have e2 : ∀ p, p < 409 → 399 ≤ p → sk_S p = (100, 25) := by decide +kernel
  rw [e2 p h2 h1] at e
  exact ⟨ml_KS e, ml_NS e⟩
theorem sk_q409 {μ : fw_M} (h : sk_m μ) {p : Nat} (h1 : 409 ≤ p) (h2 : p < 411) : m_K μ p = 100 ∧ m_N μ p = 9 := by
  have e := h.1 p (by omega) (by omega)
  have e2 : ∀ p, p < 411 → 409 ≤ p → sk_S p = (100, 9) := by decide +kernel
  rw [e2 p h2 h1] at e
  exact ⟨ml_KS e, ml_NS e⟩
theorem sk_k409 {μ : fw_M} (h : sk_m μ) : m_K μ 409 = 100 := (sk_q409 h (by decide) (by decide)).1
theorem sk_n409 {μ : fw_M} (h : sk_m μ) : m_N μ 409 = 9 := (sk_q409 h (by decide) (by decide)).2
theorem sk_k410 {μ : fw_M} (h : sk_m μ) : m_K μ 410 = 100 := (sk_q409 h (by decide) (by decide)).1
theorem sk_n410 {μ : fw_M} (h : sk_m μ) : m_N μ 410 = 9 := (sk_q409 h (by decide) (by decide)).2
theorem sk_k411 {μ : fw_M} (h : sk_m μ) : m_K μ 411 = 6 := ml_KS ((h.1 411 (by decide) (by decide)).trans (by decide +kernel : sk_S 411 = (6, 48)))
theorem sk_n411 {μ : fw_M} (h : sk_m μ) : m_N μ 411 = 48 := ml_NS ((h.1 411 (by decide) (by decide)).trans (by decide +kernel : sk_S 411 = (6, 48)))
theorem sk_q412 {μ : fw_M} (h : sk_m μ) {p : Nat} (h1 : 412 ≤ p) (h2 : p < 414) : m_K μ p = 100 ∧ m_N μ p = 11120 := by
  have e := h.1 p (by omega) (by omega)
  have e2 : ∀ p, p < 414 → 412 ≤ p → sk_S p = (100, 11120) := by decide +kernel
  rw [e2 p h2 h1] at e
  exact ⟨ml_KS e, ml_NS e⟩
theorem sk_k412 {μ : fw_M} (h : sk_m μ) : m_K μ 412 = 100 := (sk_q412 h (by decide) (by decide)).1
theorem sk_n412 {μ : fw_M} (h : sk_m μ) : m_N μ 412 = 11120 := (sk_q412 h (by decide) (by decide)).2
theorem sk_k413 {μ : fw_M} (h : sk_m μ) : m_K μ 413 = 100 := (sk_q412 h (by decide) (by decide)).1
theorem sk_n413 {μ : fw_M} (h : sk_m μ) : m_N μ 413 = 11120 := (sk_q412 h (by decide) (by decide)).2
theorem sk_k414 {μ : fw_M} (h : sk_m μ) : m_K μ 414 = 101 := ml_KS ((h.1 414 (by decide) (by decide)).trans (by decide +kernel : sk_S 414 = (101, 300)))
theorem sk_n414 {μ : fw_M} (h : sk_m μ) : m_N μ 414 = 300 := ml_NS ((h.1 414 (by decide) (by decide)).trans (by decide +kernel : sk_S 414 = (101, 300)))
theorem sk_k415 {μ : fw_M} (h : sk_m μ) : m_K μ 415 = 100 := ml_KS ((h.1 415 (by decide) (by decide)).trans (by decide +kernel : sk_S 415 = (100, 4)))
theorem sk_n415 {μ : fw_M} (h : sk_m μ) : m_N μ 415 = 4 := ml_NS ((h.1 415 (by decide) (by decide)).trans (by decide +kernel : sk_S 415 = (100, 4)))
theorem sk_q416 {μ : fw_M} (h : sk_m μ) {p : Nat} (h1 : 416 ≤ p) (h2 : p < 420) : m_K μ p = 100 ∧ m_N μ p = 96 := by
  have e := h.1 p (by omega) (by omega)
  have e2 : ∀ p, p < 420 → 416 ≤ p → sk_S p = (100, 96) := by decide +kernel
  rw [e2 p h2 h1] at e
  exact ⟨ml_KS e, ml_NS e⟩
theorem sk_k416 {μ : fw_M} (h : sk_m μ) : m_K μ 416 = 100 := (sk_q416 h (by decide) (by decide)).1
theorem sk_n416 {μ : fw_M} (h : sk_m μ) : m_N μ 416 = 96 := (sk_q416 h (by decide) (by decide)).2
theorem sk_k417 {μ : fw_M} (h : sk_m μ) : m_K μ 417 = 100 := (sk_q416 h (by decide) (by decide)).1
theorem sk_n417 {μ : fw_M} (h : sk_m μ) : m_N μ 417 = 96 := (sk_q416 h (by decide) (by decide)).2
theorem sk_k418 {μ : fw_M} (h : sk_m μ) : m_K μ 418 = 100 := (sk_q416 h (by decide) (by decide)).1
theorem sk_n418 {μ : fw_M} (h : sk_m μ) : m_N μ 418 = 96 := (sk_q416 h (by decide) (by decide)).2
theorem sk_k419 {μ : fw_M} (h : sk_m μ) : m_K μ 419 = 100 := (sk_q416 h (by decide) (by decide)).1
theorem sk_n419 {μ : fw_M} (h : sk_m μ) : m_N μ 419 = 96 := (sk_q416 h (by decide) (by decide)).2
theorem sk_q420 {μ : fw_M} (h : sk_m μ) {p : Nat} (h1 : 420 ≤ p) (h2 : p < 422) : m_K μ p = 100 ∧ m_N μ p = 1600 := by
  have e := h.1 p (by omega) (by omega)
  have e2 : ∀ p, p < 422 → 420 ≤ p → sk_S p = (100, 1600) := by decide +kernel
  rw [e2 p h2 h1] at e
  exact ⟨ml_KS e, ml_NS e⟩
theorem sk_k420 {μ : fw_M} (h : sk_m μ) : m_K μ 420 = 100 := (sk_q420 h (by decide) (by decide)).1
theorem sk_n420 {μ : fw_M} (h : sk_m μ) : m_N μ 420 = 1600 := (sk_q420 h (by decide) (by decide)).2
theorem sk_k421 {μ : fw_M} (h : sk_m μ) : m_K μ 421 = 100 := (sk_q420 h (by decide) (by decide)).1
theorem sk_n421 {μ : fw_M} (h : sk_m μ) : m_N μ 421 = 1600 := (sk_q420 h (by decide) (by decide)).2
theorem sk_k422 {μ : fw_M} (h : sk_m μ) : m_K μ 422 = 100 := ml_KS ((h.1 422 (by decide) (by decide)).trans (by decide +kernel : sk_S 422 = (100, 40)))
theorem sk_n422 {μ : fw_M} (h : sk_m μ) : m_N μ 422 = 40 := ml_NS ((h.1 422 (by decide) (by decide)).trans (by decide +kernel : sk_S 422 = (100, 40)))
theorem sk_k423 {μ : fw_M} (h : sk_m μ) : m_K μ 423 = 100 := ml_KS ((h.1 423 (by decide) (by decide)).trans (by decide +kernel : sk_S 423 = (100, 41)))
theorem sk_n423 {μ : fw_M} (h : sk_m μ) : m_N μ 423 = 41 := ml_NS ((h.1 423 (by decide) (by decide)).trans (by decide +kernel : sk_S 423 = (100, 41)))
theorem sk_q424 {μ : fw_M} (h : sk_m μ) {p : Nat} (h1 : 424 ≤ p) (h2 : p < 426) : m_K μ p = 100 ∧ m_N μ p = 80 := by
  have e := h.1 p (by omega) (by omega)
  have e2 : ∀ p, p < 426 → 424 ≤ p → sk_S p = (100, 80) := by decide +kernel
  rw [e2 p h2 h1] at e
  exact ⟨ml_KS e, ml_NS e⟩
theorem sk_k424 {μ : fw_M} (h : sk_m μ) : m_K μ 424 = 100 := (sk_q424 h (by decide) (by decide)).1
theorem sk_n424 {μ : fw_M} (h : sk_m μ) : m_N μ 424 = 80 := (sk_q424 h (by decide) (by decide)).2
theorem sk_k425 {μ : fw_M} (h : sk_m μ) : m_K μ 425 = 100 := (sk_q424 h (by decide) (by decide)).1
theorem sk_n425 {μ : fw_M} (h : sk_m μ) : m_N μ 425 = 80 := (sk_q424 h (by decide) (by decide)).2
theorem sk_q426 {μ : fw_M} (h : sk_m μ) {p : Nat} (h1 : 426 ≤ p) (h2 : p < 430) : m_K μ p = 100 ∧ m_N μ p = 24 := by
  have e := h.1 p (by omega) (by omega)
  have e2 : ∀ p, p < 430 → 426 ≤ p → sk_S p = (100, 24) := by decide +kernel
  rw [e2 p h2 h1] at e
  exact ⟨ml_KS e, ml_NS e⟩
theorem sk_k426 {μ : fw_M} (h : sk_m μ) : m_K μ 426 = 100 := (sk_q426 h (by decide) (by decide)).1
theorem sk_n426 {μ : fw_M} (h : sk_m μ) : m_N μ 426 = 24 := (sk_q426 h (by decide) (by decide)).2
theorem sk_k427 {μ : fw_M} (h : sk_m μ) : m_K μ 427 = 100 := (sk_q426 h (by decide) (by decide)).1
theorem sk_n427 {μ : fw_M} (h : sk_m μ) : m_N μ 427 = 24 := (sk_q426 h (by decide) (by decide)).2
theorem sk_k428 {μ : fw_M} (h : sk_m μ) : m_K μ 428 = 100 := (sk_q426 h (by decide) (by decide)).1
theorem sk_n428 {μ : fw_M} (h : sk_m μ) : m_N μ 428 = 24 := (sk_q426 h (by decide) (by decide)).2
theorem sk_k429 {μ : fw_M} (h : sk_m μ) : m_K μ 429 = 100 := (sk_q426 h (by decide) (by decide)).1
theorem sk_n429 {μ : fw_M} (h : sk_m μ) : m_N μ 429 = 24 := (sk_q426 h (by decide) (by decide)).2
theorem sk_q430 {μ : fw_M} (h : sk_m μ) {p : Nat} (h1 : 430 ≤ p) (h2 : p < 432) : m_K μ p = 100 ∧ m_N μ p = 400 := by
  have e := h.1 p (by omega) (by omega)
  have e2 : ∀ p, p < 432 → 430 ≤ p → sk_S p = (100, 400) := by decide +kernel
  rw [e2 p h2 h1] at e
  exact ⟨ml_KS e, ml_NS e⟩
theorem sk_k430 {μ : fw_M} (h : sk_m μ) : m_K μ 430 = 100 := (sk_q430 h (by decide) (by decide)).1
theorem sk_n430 {μ : fw_M} (h : sk_m μ) : m_N μ 430 = 400 := (sk_q430 h (by decide) (by decide)).2
theorem sk_k431 {μ : fw_M} (h : sk_m μ) : m_K μ 431 = 100 := (sk_q430 h (by decide) (by decide)).1
theorem sk_n431 {μ : fw_M} (h : sk_m μ) : m_N μ 431 = 400 := (sk_q430 h (by decide) (by decide)).2
theorem sk_k432 {μ : fw_M} (h : sk_m μ) : m_K μ 432 = 100 := ml_KS ((h.1 432 (by decide) (by decide)).trans (by decide +kernel : sk_S 432 = (100, 12)))
theorem sk_n432 {μ : fw_M} (h : sk_m μ) : m_N μ 432 = 12 := ml_NS ((h.1 432 (by decide) (by decide)).trans (by decide +kernel : sk_S 432 = (100, 12)))
theorem sk_k433 {μ : fw_M} (h : sk_m μ) : m_K μ 433 = 102 := ml_KS ((h.1 433 (by decide) (by decide)).trans (by decide +kernel : sk_S 433 = (102, 200)))
theorem sk_n433 {μ : fw_M} (h : sk_m μ) : m_N μ 433 = 200 := ml_NS ((h.1 433 (by decide) (by decide)).trans (by decide +kernel : sk_S 433 = (102, 200)))
theorem sk_k434 {μ : fw_M} (h : sk_m μ) : m_K μ 434 = 100 := ml_KS ((h.1 434 (by decide) (by decide)).trans (by decide +kernel : sk_S 434 = (100, 4)))
theorem sk_n434 {μ : fw_M} (h : sk_m μ) : m_N μ 434 = 4 := ml_NS ((h.1 434 (by decide) (by decide)).trans (by decide +kernel : sk_S 434 = (100, 4)))
theorem sk_k435 {μ : fw_M} (h : sk_m μ) : m_K μ 435 = 100 := ml_KS ((h.1 435 (by decide) (by decide)).trans (by decide +kernel : sk_S 435 = (100, 9)))
theorem sk_n435 {μ : fw_M} (h : sk_m μ) : m_N μ 435 = 9 := ml_NS ((h.1 435 (by decide) (by decide)).trans (by decide +kernel : sk_S 435 = (100, 9)))
theorem sk_q436 {μ : fw_M} (h : sk_m μ) {p : Nat} (h1 : 436 ≤ p) (h2 : p < 439) : m_K μ p = 100 ∧ m_N μ p = 6 := by
  have e := h.1 p (by omega) (by omega)
  have e2 : ∀ p, p < 439 → 436 ≤ p → sk_S p = (100, 6) := by decide +kernel
  rw [e2 p h2 h1] at e
  exact ⟨ml_KS e, ml_NS e⟩
theorem sk_k436 {μ : fw_M} (h : sk_m μ) : m_K μ 436 = 100 := (sk_q436 h (by decide) (by decide)).1
theorem sk_n436 {μ : fw_M} (h : sk_m μ) : m_N μ 436 = 6 := (sk_q436 h (by decide) (by decide)).2
theorem sk_k437 {μ : fw_M} (h : sk_m μ) : m_K μ 437 = 100 := (sk_q436 h (by decide) (by decide)).1
theorem sk_n437 {μ : fw_M} (h : sk_m μ) : m_N μ 437 = 6 := (sk_q436 h (by decide) (by decide)).2
theorem sk_k438 {μ : fw_M} (h : sk_m μ) : m_K μ 438 = 100 := (sk_q436 h (by decide) (by decide)).1
theorem sk_n438 {μ : fw_M} (h : sk_m μ) : m_N μ 438 = 6 := (sk_q436 h (by decide) (by decide)).2
theorem sk_q439 {μ : fw_M} (h : sk_m μ) {p : Nat} (h1 : 439 ≤ p) (h2 : p < 441) : m_K μ p = 100 ∧ m_N μ p = 4 := by
  have e := h.1 p (by omega) (by omega)
  have e2 : ∀ p, p < 441 → 439 ≤ p → sk_S p = (100, 4) := by decide +kernel
  rw [e2 p h2 h1] at e
  exact ⟨ml_KS e, ml_NS e⟩
theorem sk_k439 {μ : fw_M} (h : sk_m μ) : m_K μ 439 = 100 := (sk_q439 h (by decide) (by decide)).1
theorem sk_n439 {μ : fw_M} (h : sk_m μ) : m_N μ 439 = 4 := (sk_q439 h (by decide) (by decide)).2
theorem sk_k440 {μ : fw_M} (h : sk_m μ) : m_K μ 440 = 100 := (sk_q439 h (by decide) (by decide)).1
theorem sk_n440 {μ : fw_M} (h : sk_m μ) : m_N μ 440 = 4 := (sk_q439 h (by decide) (by decide)).2
theorem sk_m.I {μ : fw_M} {p : Nat} {f : Nat → Int32} (h : sk_m μ) : sk_m (m_sI μ p f) := h
theorem sk_m.L {μ : fw_M} {p : Nat} {f : Nat → Int64} (h : sk_m μ) : sk_m (m_sL μ p f) := h
