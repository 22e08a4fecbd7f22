set_option maxRecDepth 100000
theorem dL_law_352 : decode cL_law 352 = .ok (.iconst 2, 1) := by decide +kernel
theorem dL_law_353 : decode cL_law 353 = .ok (.iadd, 1) := by decide +kernel
theorem dL_law_354 : decode cL_law 354 = .ok (.iaload, 1) := by decide +kernel
theorem dL_law_355 : decode cL_law 355 = .ok (.invokevirtual 36, 3) := by decide +kernel
theorem dL_law_358 : decode cL_law 358 = .ok (.if_icmp .eq 678, 3) := by decide +kernel
theorem dL_law_361 : decode cL_law 361 = .ok (.iconst 0, 1) := by decide +kernel
theorem dL_law_362 : decode cL_law 362 = .ok (.ireturn, 1) := by decide +kernel
theorem dL_law_363 : decode cL_law 363 = .ok (.aload_n 1, 1) := by decide +kernel
theorem dL_law_364 : decode cL_law 364 = .ok (.aload_n 0, 1) := by decide +kernel
theorem dL_law_365 : decode cL_law 365 = .ok (.iload_n 3, 1) := by decide +kernel
theorem dL_law_366 : decode cL_law 366 = .ok (.iconst 1, 1) := by decide +kernel
theorem dL_law_367 : decode cL_law 367 = .ok (.iadd, 1) := by decide +kernel
theorem dL_law_368 : decode cL_law 368 = .ok (.iaload, 1) := by decide +kernel
theorem dL_law_369 : decode cL_law 369 = .ok (.aload_n 0, 1) := by decide +kernel
theorem dL_law_370 : decode cL_law 370 = .ok (.iload_n 3, 1) := by decide +kernel
theorem dL_law_371 : decode cL_law 371 = .ok (.iconst 2, 1) := by decide +kernel
theorem dL_law_372 : decode cL_law 372 = .ok (.iadd, 1) := by decide +kernel
theorem dL_law_373 : decode cL_law 373 = .ok (.iaload, 1) := by decide +kernel
theorem dL_law_374 : decode cL_law 374 = .ok (.aload_n 0, 1) := by decide +kernel
theorem dL_law_375 : decode cL_law 375 = .ok (.iload_n 3, 1) := by decide +kernel
theorem dL_law_376 : decode cL_law 376 = .ok (.iconst 3, 1) := by decide +kernel
theorem dL_law_377 : decode cL_law 377 = .ok (.iadd, 1) := by decide +kernel
theorem dL_law_378 : decode cL_law 378 = .ok (.iaload, 1) := by decide +kernel
theorem dL_law_379 : decode cL_law 379 = .ok (.invokevirtual 37, 3) := by decide +kernel
theorem dL_law_382 : decode cL_law 382 = .ok (.aload_n 2, 1) := by decide +kernel
theorem dL_law_383 : decode cL_law 383 = .ok (.aload_n 0, 1) := by decide +kernel
theorem dL_law_384 : decode cL_law 384 = .ok (.iload_n 3, 1) := by decide +kernel
theorem dL_law_385 : decode cL_law 385 = .ok (.iconst 1, 1) := by decide +kernel
theorem dL_law_386 : decode cL_law 386 = .ok (.iadd, 1) := by decide +kernel
theorem dL_law_387 : decode cL_law 387 = .ok (.iaload, 1) := by decide +kernel
theorem dL_law_388 : decode cL_law 388 = .ok (.aload_n 0, 1) := by decide +kernel
theorem dL_law_389 : decode cL_law 389 = .ok (.iload_n 3, 1) := by decide +kernel
theorem dL_law_390 : decode cL_law 390 = .ok (.iconst 2, 1) := by decide +kernel
theorem dL_law_391 : decode cL_law 391 = .ok (.iadd, 1) := by decide +kernel
theorem dL_law_392 : decode cL_law 392 = .ok (.iaload, 1) := by decide +kernel
theorem dL_law_393 : decode cL_law 393 = .ok (.aload_n 0, 1) := by decide +kernel
theorem dL_law_394 : decode cL_law 394 = .ok (.iload_n 3, 1) := by decide +kernel
theorem dL_law_395 : decode cL_law 395 = .ok (.iconst 3, 1) := by decide +kernel
theorem dL_law_396 : decode cL_law 396 = .ok (.iadd, 1) := by decide +kernel
theorem dL_law_397 : decode cL_law 397 = .ok (.iaload, 1) := by decide +kernel
theorem dL_law_398 : decode cL_law 398 = .ok (.invokevirtual 40, 3) := by decide +kernel
theorem dL_law_401 : decode cL_law 401 = .ok (.if_icmp .eq 635, 3) := by decide +kernel
theorem dL_law_404 : decode cL_law 404 = .ok (.iconst 0, 1) := by decide +kernel
theorem dL_law_405 : decode cL_law 405 = .ok (.ireturn, 1) := by decide +kernel
theorem dL_law_406 : decode cL_law 406 = .ok (.aload_n 1, 1) := by decide +kernel
theorem dL_law_407 : decode cL_law 407 = .ok (.aload_n 0, 1) := by decide +kernel
theorem dL_law_408 : decode cL_law 408 = .ok (.iload_n 3, 1) := by decide +kernel
theorem dL_law_409 : decode cL_law 409 = .ok (.iconst 1, 1) := by decide +kernel
theorem dL_law_410 : decode cL_law 410 = .ok (.iadd, 1) := by decide +kernel
theorem dL_law_411 : decode cL_law 411 = .ok (.iaload, 1) := by decide +kernel
theorem dL_law_412 : decode cL_law 412 = .ok (.invokevirtual 41, 3) := by decide +kernel
theorem dL_law_415 : decode cL_law 415 = .ok (.aload_n 2, 1) := by decide +kernel
theorem dL_law_416 : decode cL_law 416 = .ok (.aload_n 0, 1) := by decide +kernel
theorem dL_law_417 : decode cL_law 417 = .ok (.iload_n 3, 1) := by decide +kernel
theorem dL_law_418 : decode cL_law 418 = .ok (.iconst 1, 1) := by decide +kernel
theorem dL_law_419 : decode cL_law 419 = .ok (.iadd, 1) := by decide +kernel
theorem dL_law_420 : decode cL_law 420 = .ok (.iaload, 1) := by decide +kernel
theorem dL_law_421 : decode cL_law 421 = .ok (.invokevirtual 45, 3) := by decide +kernel
theorem dL_law_424 : decode cL_law 424 = .ok (.if_icmp .eq 612, 3) := by decide +kernel
theorem dL_law_427 : decode cL_law 427 = .ok (.iconst 0, 1) := by decide +kernel
theorem dL_law_428 : decode cL_law 428 = .ok (.ireturn, 1) := by decide +kernel
theorem dL_law_429 : decode cL_law 429 = .ok (.aload_n 1, 1) := by decide +kernel
theorem dL_law_430 : decode cL_law 430 = .ok (.aload_n 0, 1) := by decide +kernel
theorem dL_law_431 : decode cL_law 431 = .ok (.iload_n 3, 1) := by decide +kernel
theorem dL_law_432 : decode cL_law 432 = .ok (.iconst 1, 1) := by decide +kernel
theorem dL_law_433 : decode cL_law 433 = .ok (.iadd, 1) := by decide +kernel
theorem dL_law_434 : decode cL_law 434 = .ok (.iaload, 1) := by decide +kernel
theorem dL_law_435 : decode cL_law 435 = .ok (.aload_n 0, 1) := by decide +kernel
theorem dL_law_436 : decode cL_law 436 = .ok (.iload_n 3, 1) := by decide +kernel
theorem dL_law_437 : decode cL_law 437 = .ok (.iconst 2, 1) := by decide +kernel
theorem dL_law_438 : decode cL_law 438 = .ok (.iadd, 1) := by decide +kernel
theorem dL_law_439 : decode cL_law 439 = .ok (.iaload, 1) := by decide +kernel
theorem dL_law_440 : decode cL_law 440 = .ok (.invokevirtual 46, 3) := by decide +kernel
theorem dL_law_443 : decode cL_law 443 = .ok (.aload_n 2, 1) := by decide +kernel
theorem dL_law_444 : decode cL_law 444 = .ok (.aload_n 0, 1) := by decide +kernel
theorem dL_law_445 : decode cL_law 445 = .ok (.iload_n 3, 1) := by decide +kernel
theorem dL_law_446 : decode cL_law 446 = .ok (.iconst 1, 1) := by decide +kernel
theorem dL_law_447 : decode cL_law 447 = .ok (.iadd, 1) := by decide +kernel
theorem dL_law_448 : decode cL_law 448 = .ok (.iaload, 1) := by decide +kernel
theorem dL_law_449 : decode cL_law 449 = .ok (.aload_n 0, 1) := by decide +kernel
theorem dL_law_450 : decode cL_law 450 = .ok (.iload_n 3, 1) := by decide +kernel
theorem dL_law_451 : decode cL_law 451 = .ok (.iconst 2, 1) := by decide +kernel
theorem dL_law_452 : decode cL_law 452 = .ok (.iadd, 1) := by decide +kernel
theorem dL_law_453 : decode cL_law 453 = .ok (.iaload, 1) := by decide +kernel
theorem dL_law_454 : decode cL_law 454 = .ok (.invokevirtual 50, 3) := by decide +kernel
theorem dL_law_457 : decode cL_law 457 = .ok (.lcmp, 1) := by decide +kernel
theorem dL_law_458 : decode cL_law 458 = .ok (.ifCond .eq 578, 3) := by decide +kernel
theorem dL_law_461 : decode cL_law 461 = .ok (.iconst 0, 1) := by decide +kernel
theorem dL_law_462 : decode cL_law 462 = .ok (.ireturn, 1) := by decide +kernel
theorem dL_law_463 : decode cL_law 463 = .ok (.aload_n 1, 1) := by decide +kernel
theorem dL_law_464 : decode cL_law 464 = .ok (.aload_n 0, 1) := by decide +kernel
theorem dL_law_465 : decode cL_law 465 = .ok (.iload_n 3, 1) := by decide +kernel
theorem dL_law_466 : decode cL_law 466 = .ok (.iconst 1, 1) := by decide +kernel
theorem dL_law_467 : decode cL_law 467 = .ok (.iadd, 1) := by decide +kernel
theorem dL_law_468 : decode cL_law 468 = .ok (.iaload, 1) := by decide +kernel
theorem dL_law_469 : decode cL_law 469 = .ok (.aload_n 0, 1) := by decide +kernel
theorem dL_law_470 : decode cL_law 470 = .ok (.iload_n 3, 1) := by decide +kernel
theorem dL_law_471 : decode cL_law 471 = .ok (.iconst 2, 1) := by decide +kernel
theorem dL_law_472 : decode cL_law 472 = .ok (.iadd, 1) := by decide +kernel
theorem dL_law_473 : decode cL_law 473 = .ok (.iaload, 1) := by decide +kernel
theorem dL_law_474 : decode cL_law 474 = .ok (.invokevirtual 51, 3) := by decide +kernel
theorem dL_law_477 : decode cL_law 477 = .ok (.aload_n 2, 1) := by decide +kernel
theorem dL_law_478 : decode cL_law 478 = .ok (.aload_n 0, 1) := by decide +kernel
theorem dL_law_479 : decode cL_law 479 = .ok (.iload_n 3, 1) := by decide +kernel
theorem dL_law_480 : decode cL_law 480 = .ok (.iconst 1, 1) := by decide +kernel
theorem dL_law_481 : decode cL_law 481 = .ok (.iadd, 1) := by decide +kernel
theorem dL_law_482 : decode cL_law 482 = .ok (.iaload, 1) := by decide +kernel
theorem dL_law_483 : decode cL_law 483 = .ok (.aload_n 0, 1) := by decide +kernel
theorem dL_law_484 : decode cL_law 484 = .ok (.iload_n 3, 1) := by decide +kernel
theorem dL_law_485 : decode cL_law 485 = .ok (.iconst 2, 1) := by decide +kernel
theorem dL_law_486 : decode cL_law 486 = .ok (.iadd, 1) := by decide +kernel
theorem dL_law_487 : decode cL_law 487 = .ok (.iaload, 1) := by decide +kernel
theorem dL_law_488 : decode cL_law 488 = .ok (.invokevirtual 54, 3) := by decide +kernel
theorem dL_law_491 : decode cL_law 491 = .ok (.lcmp, 1) := by decide +kernel
theorem dL_law_492 : decode cL_law 492 = .ok (.ifCond .eq 544, 3) := by decide +kernel
theorem dL_law_495 : decode cL_law 495 = .ok (.iconst 0, 1) := by decide +kernel
theorem dL_law_496 : decode cL_law 496 = .ok (.ireturn, 1) := by decide +kernel
theorem dL_law_497 : decode cL_law 497 = .ok (.aload_n 1, 1) := by decide +kernel
theorem dL_law_498 : decode cL_law 498 = .ok (.aload_n 0, 1) := by decide +kernel
theorem dL_law_499 : decode cL_law 499 = .ok (.iload_n 3, 1) := by decide +kernel
theorem dL_law_500 : decode cL_law 500 = .ok (.iconst 1, 1) := by decide +kernel
theorem dL_law_501 : decode cL_law 501 = .ok (.iadd, 1) := by decide +kernel
theorem dL_law_502 : decode cL_law 502 = .ok (.iaload, 1) := by decide +kernel
theorem dL_law_503 : decode cL_law 503 = .ok (.aload_n 0, 1) := by decide +kernel
theorem dL_law_504 : decode cL_law 504 = .ok (.iload_n 3, 1) := by decide +kernel
theorem dL_law_505 : decode cL_law 505 = .ok (.iconst 2, 1) := by decide +kernel
theorem dL_law_506 : decode cL_law 506 = .ok (.iadd, 1) := by decide +kernel
theorem dL_law_507 : decode cL_law 507 = .ok (.iaload, 1) := by decide +kernel
theorem dL_law_508 : decode cL_law 508 = .ok (.aload_n 0, 1) := by decide +kernel
theorem dL_law_509 : decode cL_law 509 = .ok (.iload_n 3, 1) := by decide +kernel
theorem dL_law_510 : decode cL_law 510 = .ok (.iconst 3, 1) := by decide +kernel
theorem dL_law_511 : decode cL_law 511 = .ok (.iadd, 1) := by decide +kernel
theorem dL_law_512 : decode cL_law 512 = .ok (.iaload, 1) := by decide +kernel
theorem dL_law_513 : decode cL_law 513 = .ok (.invokevirtual 55, 3) := by decide +kernel
theorem dL_law_516 : decode cL_law 516 = .ok (.aload_n 2, 1) := by decide +kernel
theorem dL_law_517 : decode cL_law 517 = .ok (.aload_n 0, 1) := by decide +kernel
theorem dL_law_518 : decode cL_law 518 = .ok (.iload_n 3, 1) := by decide +kernel
theorem dL_law_519 : decode cL_law 519 = .ok (.iconst 1, 1) := by decide +kernel
theorem dL_law_520 : decode cL_law 520 = .ok (.iadd, 1) := by decide +kernel
theorem dL_law_521 : decode cL_law 521 = .ok (.iaload, 1) := by decide +kernel
theorem dL_law_522 : decode cL_law 522 = .ok (.aload_n 0, 1) := by decide +kernel
theorem dL_law_523 : decode cL_law 523 = .ok (.iload_n 3, 1) := by decide +kernel
theorem dL_law_524 : decode cL_law 524 = .ok (.iconst 2, 1) := by decide +kernel
theorem dL_law_525 : decode cL_law 525 = .ok (.iadd, 1) := by decide +kernel
theorem dL_law_526 : decode cL_law 526 = .ok (.iaload, 1) := by decide +kernel
theorem dL_law_527 : decode cL_law 527 = .ok (.aload_n 0, 1) := by decide +kernel
theorem dL_law_528 : decode cL_law 528 = .ok (.iload_n 3, 1) := by decide +kernel
theorem dL_law_529 : decode cL_law 529 = .ok (.iconst 3, 1) := by decide +kernel
theorem dL_law_530 : decode cL_law 530 = .ok (.iadd, 1) := by decide +kernel
theorem dL_law_531 : decode cL_law 531 = .ok (.iaload, 1) := by decide +kernel
theorem dL_law_532 : decode cL_law 532 = .ok (.invokevirtual 58, 3) := by decide +kernel
theorem dL_law_535 : decode cL_law 535 = .ok (.if_icmp .eq 501, 3) := by decide +kernel
theorem dL_law_538 : decode cL_law 538 = .ok (.iconst 0, 1) := by decide +kernel
theorem dL_law_539 : decode cL_law 539 = .ok (.ireturn, 1) := by decide +kernel
theorem dL_law_540 : decode cL_law 540 = .ok (.aload_n 1, 1) := by decide +kernel
theorem dL_law_541 : decode cL_law 541 = .ok (.aload_n 0, 1) := by decide +kernel
theorem dL_law_542 : decode cL_law 542 = .ok (.iload_n 3, 1) := by decide +kernel
theorem dL_law_543 : decode cL_law 543 = .ok (.iconst 1, 1) := by decide +kernel
theorem dL_law_544 : decode cL_law 544 = .ok (.iadd, 1) := by decide +kernel
theorem dL_law_545 : decode cL_law 545 = .ok (.iaload, 1) := by decide +kernel
theorem dL_law_546 : decode cL_law 546 = .ok (.aload_n 0, 1) := by decide +kernel
theorem dL_law_547 : decode cL_law 547 = .ok (.iload_n 3, 1) := by decide +kernel
theorem dL_law_548 : decode cL_law 548 = .ok (.iconst 2, 1) := by decide +kernel
theorem dL_law_549 : decode cL_law 549 = .ok (.iadd, 1) := by decide +kernel
theorem dL_law_550 : decode cL_law 550 = .ok (.iaload, 1) := by decide +kernel
theorem dL_law_551 : decode cL_law 551 = .ok (.invokevirtual 59, 3) := by decide +kernel
theorem dL_law_554 : decode cL_law 554 = .ok (.aload_n 2, 1) := by decide +kernel
theorem dL_law_555 : decode cL_law 555 = .ok (.aload_n 0, 1) := by decide +kernel
theorem dL_law_556 : decode cL_law 556 = .ok (.iload_n 3, 1) := by decide +kernel
theorem dL_law_557 : decode cL_law 557 = .ok (.iconst 1, 1) := by decide +kernel
theorem dL_law_558 : decode cL_law 558 = .ok (.iadd, 1) := by decide +kernel
theorem dL_law_559 : decode cL_law 559 = .ok (.iaload, 1) := by decide +kernel
theorem dL_law_560 : decode cL_law 560 = .ok (.aload_n 0, 1) := by decide +kernel
theorem dL_law_561 : decode cL_law 561 = .ok (.iload_n 3, 1) := by decide +kernel
theorem dL_law_562 : decode cL_law 562 = .ok (.iconst 2, 1) := by decide +kernel
theorem dL_law_563 : decode cL_law 563 = .ok (.iadd, 1) := by decide +kernel
theorem dL_law_564 : decode cL_law 564 = .ok (.iaload, 1) := by decide +kernel
theorem dL_law_565 : decode cL_law 565 = .ok (.invokevirtual 62, 3) := by decide +kernel
theorem dL_law_568 : decode cL_law 568 = .ok (.if_icmp .eq 468, 3) := by decide +kernel
theorem dL_law_571 : decode cL_law 571 = .ok (.iconst 0, 1) := by decide +kernel
theorem dL_law_572 : decode cL_law 572 = .ok (.ireturn, 1) := by decide +kernel
theorem dL_law_573 : decode cL_law 573 = .ok (.aload_n 1, 1) := by decide +kernel
theorem dL_law_574 : decode cL_law 574 = .ok (.aload_n 0, 1) := by decide +kernel
theorem dL_law_575 : decode cL_law 575 = .ok (.iload_n 3, 1) := by decide +kernel
theorem dL_law_576 : decode cL_law 576 = .ok (.iconst 1, 1) := by decide +kernel
theorem dL_law_577 : decode cL_law 577 = .ok (.iadd, 1) := by decide +kernel
theorem dL_law_578 : decode cL_law 578 = .ok (.iaload, 1) := by decide +kernel
theorem dL_law_579 : decode cL_law 579 = .ok (.aload_n 0, 1) := by decide +kernel
theorem dL_law_580 : decode cL_law 580 = .ok (.iload_n 3, 1) := by decide +kernel
theorem dL_law_581 : decode cL_law 581 = .ok (.iconst 2, 1) := by decide +kernel
theorem dL_law_582 : decode cL_law 582 = .ok (.iadd, 1) := by decide +kernel
theorem dL_law_583 : decode cL_law 583 = .ok (.iaload, 1) := by decide +kernel
theorem dL_law_584 : decode cL_law 584 = .ok (.invokevirtual 63, 3) := by decide +kernel
theorem dL_law_587 : decode cL_law 587 = .ok (.aload_n 2, 1) := by decide +kernel
theorem dL_law_588 : decode cL_law 588 = .ok (.aload_n 0, 1) := by decide +kernel
theorem dL_law_589 : decode cL_law 589 = .ok (.iload_n 3, 1) := by decide +kernel
theorem dL_law_590 : decode cL_law 590 = .ok (.iconst 1, 1) := by decide +kernel
theorem dL_law_591 : decode cL_law 591 = .ok (.iadd, 1) := by decide +kernel
theorem dL_law_592 : decode cL_law 592 = .ok (.iaload, 1) := by decide +kernel
theorem dL_law_593 : decode cL_law 593 = .ok (.aload_n 0, 1) := by decide +kernel
